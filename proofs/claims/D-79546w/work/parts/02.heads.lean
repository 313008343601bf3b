/-! the classes' names, fields, methods, words (claim/names, without the decode rows) -/
set_option maxRecDepth 100000
/-! java/lang/AbstractStringBuilder -/
def RJ0 : String := "java/lang/AbstractStringBuilder"
abbrev cJ0_init : ByteArray := prog_24_method_2_code
def yJ0_init : MethodName := ⟨RJ0, "<init>", "(I)V"⟩
abbrev cJ0_length : ByteArray := prog_24_method_6_code
def yJ0_length : MethodName := ⟨RJ0, "length", "()I"⟩
abbrev cJ0_append : ByteArray := prog_24_method_31_code
def yJ0_append : MethodName := ⟨RJ0, "append", "(C)Ljava/lang/AbstractStringBuilder;"⟩
abbrev cJ0_ensureCapacityInternal : ByteArray := prog_24_method_9_code
def yJ0_ensureCapacityInternal : MethodName := ⟨RJ0, "ensureCapacityInternal", "(I)V"⟩
abbrev cJ0_newCapacity : ByteArray := prog_24_method_10_code
def yJ0_newCapacity : MethodName := ⟨RJ0, "newCapacity", "(I)I"⟩
abbrev cJ0_isLatin1 : ByteArray := prog_24_method_68_code
def yJ0_isLatin1 : MethodName := ⟨RJ0, "isLatin1", "()Z"⟩
abbrev cJ0_inflate : ByteArray := prog_24_method_11_code
def yJ0_inflate : MethodName := ⟨RJ0, "inflate", "()V"⟩
abbrev cJ0_charAt : ByteArray := prog_24_method_14_code
def yJ0_charAt : MethodName := ⟨RJ0, "charAt", "(I)C"⟩
abbrev cJ0_setLength : ByteArray := prog_24_method_13_code
def yJ0_setLength : MethodName := ⟨RJ0, "setLength", "(I)V"⟩
abbrev cJ0_append_2 : ByteArray := prog_24_method_32_code
def yJ0_append_2 : MethodName := ⟨RJ0, "append", "(I)Ljava/lang/AbstractStringBuilder;"⟩
theorem q113 : (Jvm.Cond.initialized "java/lang/AbstractStringBuilder") ∈ lw_all := lw_g (lw_at lw_m1 9 rfl) rfl
theorem q367 : (Jvm.Cond.instanceMethod ({ cls := "java/lang/AbstractStringBuilder", name := "<init>", desc := "(I)V" } : Jvm.MethodName)) ∈ lw_all := lw_g (lw_at lw_m2 23 rfl) rfl
theorem q368 : (Jvm.Cond.code ({ cls := "java/lang/AbstractStringBuilder", name := "<init>", desc := "(I)V" } : Jvm.MethodName) prog_24_method_2_code (2 : Nat) (Option.none : Option Jvm.ClassFile.FieldType)) ∈ lw_all := lw_g (lw_at lw_m2 24 rfl) rfl
theorem q369 : (Jvm.Cond.methodLink "java/lang/AbstractStringBuilder" (3 : Nat) ({ cls := "java/lang/Object", name := "<init>", desc := "()V" } : Jvm.MethodName)) ∈ lw_all := lw_g (lw_at lw_m2 25 rfl) rfl
theorem q370 : (Jvm.Cond.fieldLink "java/lang/AbstractStringBuilder" (18 : Nat) "java/lang/String" "COMPACT_STRINGS" "Z") ∈ lw_all := lw_g (lw_at lw_m2 26 rfl) rfl
theorem q372 : (Jvm.Cond.methodLink "java/lang/AbstractStringBuilder" (26 : Nat) ({ cls := "java/lang/StringUTF16", name := "newBytesFor", desc := "(I)[B" } : Jvm.MethodName)) ∈ lw_all := lw_g (lw_at lw_m2 28 rfl) rfl
theorem q379 : (Jvm.Cond.fieldLink "java/lang/AbstractStringBuilder" (15 : Nat) "java/lang/AbstractStringBuilder" "value" "[B") ∈ lw_all := lw_g (lw_at lw_m2 35 rfl) rfl
theorem q380 : (Jvm.Cond.fieldLink "java/lang/AbstractStringBuilder" (22 : Nat) "java/lang/AbstractStringBuilder" "coder" "B") ∈ lw_all := lw_g (lw_at lw_m2 36 rfl) rfl
theorem q381 : (Jvm.Cond.fieldLink "java/lang/AbstractStringBuilder" (73 : Nat) "java/lang/AbstractStringBuilder" "maybeLatin1" "Z") ∈ lw_all := lw_g (lw_at lw_m2 37 rfl) rfl
theorem q382 : (Jvm.Cond.fieldLink "java/lang/AbstractStringBuilder" (79 : Nat) "java/lang/AbstractStringBuilder" "count" "I") ∈ lw_all := lw_g (lw_at lw_m2 38 rfl) rfl
theorem q384 : (Jvm.Cond.soleField "java/lang/AbstractStringBuilder" "value") ∈ lw_all := lw_g (lw_at lw_m2 40 rfl) rfl
theorem q386 : (Jvm.Cond.soleField "java/lang/AbstractStringBuilder" "coder") ∈ lw_all := lw_g (lw_at lw_m2 42 rfl) rfl
theorem q388 : (Jvm.Cond.soleField "java/lang/AbstractStringBuilder" "maybeLatin1") ∈ lw_all := lw_g (lw_at lw_m2 44 rfl) rfl
theorem q390 : (Jvm.Cond.soleField "java/lang/AbstractStringBuilder" "count") ∈ lw_all := lw_g (lw_at lw_m2 46 rfl) rfl
theorem q801 : (Jvm.Cond.instanceMethod ({ cls := "java/lang/AbstractStringBuilder", name := "length", desc := "()I" } : Jvm.MethodName)) ∈ lw_all := lw_g (lw_at lw_m3 217 rfl) rfl
theorem q802 : (Jvm.Cond.code ({ cls := "java/lang/AbstractStringBuilder", name := "length", desc := "()I" } : Jvm.MethodName) prog_24_method_6_code (1 : Nat) (Option.some Jvm.ClassFile.FieldType.int)) ∈ lw_all := lw_g (lw_at lw_m3 218 rfl) rfl
theorem q808 : (Jvm.Cond.instanceMethod ({ cls := "java/lang/AbstractStringBuilder", name := "append", desc := "(C)Ljava/lang/AbstractStringBuilder;" } : Jvm.MethodName)) ∈ lw_all := lw_g (lw_at lw_m3 224 rfl) rfl
theorem q809 : (Jvm.Cond.code ({ cls := "java/lang/AbstractStringBuilder", name := "append", desc := "(C)Ljava/lang/AbstractStringBuilder;" } : Jvm.MethodName) prog_24_method_31_code (2 : Nat) (Option.some (Jvm.ClassFile.FieldType.object "java/lang/AbstractStringBuilder"))) ∈ lw_all := lw_g (lw_at lw_m3 225 rfl) rfl
theorem q810 : (Jvm.Cond.methodLink "java/lang/AbstractStringBuilder" (100 : Nat) ({ cls := "java/lang/AbstractStringBuilder", name := "ensureCapacityInternal", desc := "(I)V" } : Jvm.MethodName)) ∈ lw_all := lw_g (lw_at lw_m3 226 rfl) rfl
theorem q811 : (Jvm.Cond.privateMethod ({ cls := "java/lang/AbstractStringBuilder", name := "ensureCapacityInternal", desc := "(I)V" } : Jvm.MethodName)) ∈ lw_tbl := lw_at lw_m3 227 rfl
theorem q812 : (Jvm.Cond.instanceMethod ({ cls := "java/lang/AbstractStringBuilder", name := "ensureCapacityInternal", desc := "(I)V" } : Jvm.MethodName)) ∈ lw_all := lw_g (lw_at lw_m3 228 rfl) rfl
theorem q813 : (Jvm.Cond.code ({ cls := "java/lang/AbstractStringBuilder", name := "ensureCapacityInternal", desc := "(I)V" } : Jvm.MethodName) prog_24_method_9_code (3 : Nat) (Option.none : Option Jvm.ClassFile.FieldType)) ∈ lw_all := lw_g (lw_at lw_m3 229 rfl) rfl
theorem q814 : (Jvm.Cond.methodLink "java/lang/AbstractStringBuilder" (104 : Nat) ({ cls := "java/lang/AbstractStringBuilder", name := "newCapacity", desc := "(I)I" } : Jvm.MethodName)) ∈ lw_all := lw_g (lw_at lw_m3 230 rfl) rfl
theorem q815 : (Jvm.Cond.privateMethod ({ cls := "java/lang/AbstractStringBuilder", name := "newCapacity", desc := "(I)I" } : Jvm.MethodName)) ∈ lw_tbl := lw_at lw_m3 231 rfl
theorem q816 : (Jvm.Cond.instanceMethod ({ cls := "java/lang/AbstractStringBuilder", name := "newCapacity", desc := "(I)I" } : Jvm.MethodName)) ∈ lw_all := lw_g (lw_at lw_m3 232 rfl) rfl
theorem q817 : (Jvm.Cond.code ({ cls := "java/lang/AbstractStringBuilder", name := "newCapacity", desc := "(I)I" } : Jvm.MethodName) prog_24_method_10_code (6 : Nat) (Option.some Jvm.ClassFile.FieldType.int)) ∈ lw_all := lw_g (lw_at lw_m3 233 rfl) rfl
theorem q818 : (Jvm.Cond.methodLink "java/lang/AbstractStringBuilder" (114 : Nat) ({ cls := "jdk/internal/util/ArraysSupport", name := "newLength", desc := "(III)I" } : Jvm.MethodName)) ∈ lw_all := lw_g (lw_at lw_m3 234 rfl) rfl
theorem q828 : (Jvm.Cond.constant "java/lang/AbstractStringBuilder" (39 : Nat) (2147483647 : Int32)) ∈ lw_all := lw_g (lw_at lw_m4 4 rfl) rfl
theorem q829 : (Jvm.Cond.methodLink "java/lang/AbstractStringBuilder" (108 : Nat) ({ cls := "java/util/Arrays", name := "copyOf", desc := "([BI)[B" } : Jvm.MethodName)) ∈ lw_all := lw_g (lw_at lw_m4 5 rfl) rfl
theorem q841 : (Jvm.Cond.methodLink "java/lang/AbstractStringBuilder" (83 : Nat) ({ cls := "java/lang/AbstractStringBuilder", name := "isLatin1", desc := "()Z" } : Jvm.MethodName)) ∈ lw_all := lw_g (lw_at lw_m4 17 rfl) rfl
theorem q842 : (Jvm.Cond.instanceMethod ({ cls := "java/lang/AbstractStringBuilder", name := "isLatin1", desc := "()Z" } : Jvm.MethodName)) ∈ lw_all := lw_g (lw_at lw_m4 18 rfl) rfl
theorem q843 : (Jvm.Cond.sameMethod "java/lang/AbstractStringBuilder" "java/lang/AbstractStringBuilder" "isLatin1" "()Z") ∈ lw_all := lw_g (lw_at lw_m4 19 rfl) rfl
theorem q845 : (Jvm.Cond.code ({ cls := "java/lang/AbstractStringBuilder", name := "isLatin1", desc := "()Z" } : Jvm.MethodName) prog_24_method_68_code (1 : Nat) (Option.some Jvm.ClassFile.FieldType.boolean)) ∈ lw_all := lw_g (lw_at lw_m4 21 rfl) rfl
theorem q846 : (Jvm.Cond.methodLink "java/lang/AbstractStringBuilder" (191 : Nat) ({ cls := "java/lang/StringLatin1", name := "canEncode", desc := "(C)Z" } : Jvm.MethodName)) ∈ lw_all := lw_g (lw_at lw_m4 22 rfl) rfl
theorem q849 : (Jvm.Cond.methodLink "java/lang/AbstractStringBuilder" (195 : Nat) ({ cls := "java/lang/AbstractStringBuilder", name := "inflate", desc := "()V" } : Jvm.MethodName)) ∈ lw_all := lw_g (lw_at lw_m4 25 rfl) rfl
theorem q850 : (Jvm.Cond.privateMethod ({ cls := "java/lang/AbstractStringBuilder", name := "inflate", desc := "()V" } : Jvm.MethodName)) ∈ lw_tbl := lw_at lw_m4 26 rfl
theorem q851 : (Jvm.Cond.instanceMethod ({ cls := "java/lang/AbstractStringBuilder", name := "inflate", desc := "()V" } : Jvm.MethodName)) ∈ lw_all := lw_g (lw_at lw_m4 27 rfl) rfl
theorem q852 : (Jvm.Cond.code ({ cls := "java/lang/AbstractStringBuilder", name := "inflate", desc := "()V" } : Jvm.MethodName) prog_24_method_11_code (2 : Nat) (Option.none : Option Jvm.ClassFile.FieldType)) ∈ lw_all := lw_g (lw_at lw_m4 28 rfl) rfl
theorem q853 : (Jvm.Cond.methodLink "java/lang/AbstractStringBuilder" (125 : Nat) ({ cls := "java/lang/StringLatin1", name := "inflate", desc := "([BI[BII)V" } : Jvm.MethodName)) ∈ lw_all := lw_g (lw_at lw_m4 29 rfl) rfl
theorem q882 : (Jvm.Cond.methodLink "java/lang/AbstractStringBuilder" (197 : Nat) ({ cls := "java/lang/StringUTF16", name := "putCharSB", desc := "([BII)V" } : Jvm.MethodName)) ∈ lw_all := lw_g (lw_at lw_m4 58 rfl) rfl
theorem q924 : (Jvm.Cond.instanceMethod ({ cls := "java/lang/AbstractStringBuilder", name := "charAt", desc := "(I)C" } : Jvm.MethodName)) ∈ lw_all := lw_g (lw_at lw_m4 100 rfl) rfl
theorem q925 : (Jvm.Cond.code ({ cls := "java/lang/AbstractStringBuilder", name := "charAt", desc := "(I)C" } : Jvm.MethodName) prog_24_method_14_code (5 : Nat) (Option.some Jvm.ClassFile.FieldType.char)) ∈ lw_all := lw_g (lw_at lw_m4 101 rfl) rfl
theorem q926 : (Jvm.Cond.methodLink "java/lang/AbstractStringBuilder" (138 : Nat) ({ cls := "java/lang/Math", name := "min", desc := "(II)I" } : Jvm.MethodName)) ∈ lw_all := lw_g (lw_at lw_m4 102 rfl) rfl
theorem q927 : (Jvm.Cond.methodLink "java/lang/AbstractStringBuilder" (144 : Nat) ({ cls := "java/lang/String", name := "checkIndex", desc := "(II)V" } : Jvm.MethodName)) ∈ lw_all := lw_g (lw_at lw_m4 103 rfl) rfl
theorem q928 : (Jvm.Cond.methodLink "java/lang/AbstractStringBuilder" (148 : Nat) ({ cls := "java/lang/StringUTF16", name := "getChar", desc := "([BI)C" } : Jvm.MethodName)) ∈ lw_all := lw_g (lw_at lw_m4 104 rfl) rfl
theorem q1114 : (Jvm.Cond.instanceMethod ({ cls := "java/lang/AbstractStringBuilder", name := "setLength", desc := "(I)V" } : Jvm.MethodName)) ∈ lw_all := lw_g (lw_at lw_m5 50 rfl) rfl
theorem q1115 : (Jvm.Cond.code ({ cls := "java/lang/AbstractStringBuilder", name := "setLength", desc := "(I)V" } : Jvm.MethodName) prog_24_method_13_code (2 : Nat) (Option.none : Option Jvm.ClassFile.FieldType)) ∈ lw_all := lw_g (lw_at lw_m5 51 rfl) rfl
theorem q1116 : (Jvm.Cond.methodLink "java/lang/AbstractStringBuilder" (133 : Nat) ({ cls := "java/lang/StringLatin1", name := "fillNull", desc := "([BII)V" } : Jvm.MethodName)) ∈ lw_all := lw_g (lw_at lw_m5 52 rfl) rfl
theorem q1125 : (Jvm.Cond.methodLink "java/lang/AbstractStringBuilder" (137 : Nat) ({ cls := "java/lang/StringUTF16", name := "fillNull", desc := "([BII)V" } : Jvm.MethodName)) ∈ lw_all := lw_g (lw_at lw_m5 61 rfl) rfl
theorem q1372 : (Jvm.Cond.instanceMethod ({ cls := "java/lang/AbstractStringBuilder", name := "append", desc := "(I)Ljava/lang/AbstractStringBuilder;" } : Jvm.MethodName)) ∈ lw_all := lw_g (lw_at lw_m6 68 rfl) rfl
theorem q1373 : (Jvm.Cond.code ({ cls := "java/lang/AbstractStringBuilder", name := "append", desc := "(I)Ljava/lang/AbstractStringBuilder;" } : Jvm.MethodName) prog_24_method_32_code (4 : Nat) (Option.some (Jvm.ClassFile.FieldType.object "java/lang/AbstractStringBuilder"))) ∈ lw_all := lw_g (lw_at lw_m6 69 rfl) rfl
theorem q1374 : (Jvm.Cond.methodLink "java/lang/AbstractStringBuilder" (245 : Nat) ({ cls := "java/lang/Integer", name := "stringSize", desc := "(I)I" } : Jvm.MethodName)) ∈ lw_all := lw_g (lw_at lw_m6 70 rfl) rfl
theorem q1377 : (Jvm.Cond.methodLink "java/lang/AbstractStringBuilder" (248 : Nat) ({ cls := "java/lang/Integer", name := "getChars", desc := "(II[B)I" } : Jvm.MethodName)) ∈ lw_all := lw_g (lw_at lw_m6 73 rfl) rfl
theorem q1384 : (Jvm.Cond.methodLink "java/lang/AbstractStringBuilder" (251 : Nat) ({ cls := "java/lang/StringUTF16", name := "getChars", desc := "(III[B)I" } : Jvm.MethodName)) ∈ lw_all := lw_g (lw_at lw_m6 80 rfl) rfl
theorem q1915 : (Jvm.Cond.sameMethod "java/lang/AbstractStringBuilder" "java/lang/AbstractStringBuilder" "length" "()I") ∈ lw_all := lw_g (lw_at lw_m8 131 rfl) rfl
theorem q1916 : (Jvm.Cond.sameMethod "java/lang/AbstractStringBuilder" "java/lang/AbstractStringBuilder" "append" "(C)Ljava/lang/AbstractStringBuilder;") ∈ lw_all := lw_g (lw_at lw_m8 132 rfl) rfl
theorem q1917 : (Jvm.Cond.sameMethod "java/lang/AbstractStringBuilder" "java/lang/AbstractStringBuilder" "ensureCapacityInternal" "(I)V") ∈ lw_all := lw_g (lw_at lw_m8 133 rfl) rfl
theorem q1918 : (Jvm.Cond.sameMethod "java/lang/AbstractStringBuilder" "java/lang/AbstractStringBuilder" "newCapacity" "(I)I") ∈ lw_all := lw_g (lw_at lw_m8 134 rfl) rfl
theorem q1919 : (Jvm.Cond.sameMethod "java/lang/AbstractStringBuilder" "java/lang/AbstractStringBuilder" "inflate" "()V") ∈ lw_all := lw_g (lw_at lw_m8 135 rfl) rfl
theorem q1920 : (Jvm.Cond.sameMethod "java/lang/AbstractStringBuilder" "java/lang/AbstractStringBuilder" "charAt" "(I)C") ∈ lw_all := lw_g (lw_at lw_m8 136 rfl) rfl
theorem q1921 : (Jvm.Cond.sameMethod "java/lang/AbstractStringBuilder" "java/lang/AbstractStringBuilder" "setLength" "(I)V") ∈ lw_all := lw_g (lw_at lw_m8 137 rfl) rfl
theorem q1923 : (Jvm.Cond.sameMethod "java/lang/AbstractStringBuilder" "java/lang/AbstractStringBuilder" "append" "(I)Ljava/lang/AbstractStringBuilder;") ∈ lw_all := lw_g (lw_at lw_m8 139 rfl) rfl
/-! java/lang/StringBuilder -/
def RJ1 : String := "java/lang/StringBuilder"
def TJ1 : u_T := fun k => match k with
  | 0 => ("java/lang/AbstractStringBuilder", "value", "[B", false)
  | 1 => ("java/lang/AbstractStringBuilder", "coder", "B", false)
  | 2 => ("java/lang/AbstractStringBuilder", "maybeLatin1", "Z", false)
  | _ => ("java/lang/AbstractStringBuilder", "count", "I", false)
def tyJ1 : Nat → FieldType := fun k => match k with
  | 0 => .array .byte
  | 1 => .byte
  | 2 => .boolean
  | _ => .int
abbrev wsJ10 : List Cond := u_ws RJ1 TJ1 4
theorem nmJ1 : ∀ a, a < 4 → ∀ b, b < 4 → a ≠ b → (TJ1 a).2.1 ≠ (TJ1 b).2.1 := by decide +kernel
theorem tyJ1_ok : ∀ k, k < 4 → parseFieldDescriptor (TJ1 k).2.2.1 = some (tyJ1 k) := by decide +kernel
abbrev cJ1_init : ByteArray := prog_36_method_2_code
def yJ1_init : MethodName := ⟨RJ1, "<init>", "(I)V"⟩
abbrev cJ1_length : ByteArray := prog_36_method_93_code
def yJ1_length : MethodName := ⟨RJ1, "length", "()I"⟩
abbrev cJ1_append : ByteArray := prog_36_method_14_code
def yJ1_append : MethodName := ⟨RJ1, "append", "(C)Ljava/lang/StringBuilder;"⟩
abbrev cJ1_charAt : ByteArray := prog_36_method_88_code
def yJ1_charAt : MethodName := ⟨RJ1, "charAt", "(I)C"⟩
abbrev cJ1_setLength : ByteArray := prog_36_method_89_code
def yJ1_setLength : MethodName := ⟨RJ1, "setLength", "(I)V"⟩
abbrev cJ1_append_2 : ByteArray := prog_36_method_15_code
def yJ1_append_2 : MethodName := ⟨RJ1, "append", "(I)Ljava/lang/StringBuilder;"⟩
theorem q114 : (Jvm.Cond.initialized "java/lang/StringBuilder") ∈ lw_all := lw_g (lw_at lw_m1 10 rfl) rfl
theorem q362 : (Jvm.Cond.instantiable "java/lang/StringBuilder" (4 : Nat)) ∈ lw_all := lw_g (lw_at lw_m2 18 rfl) rfl
theorem q364 : (Jvm.Cond.instanceMethod ({ cls := "java/lang/StringBuilder", name := "<init>", desc := "(I)V" } : Jvm.MethodName)) ∈ lw_all := lw_g (lw_at lw_m2 20 rfl) rfl
theorem q365 : (Jvm.Cond.code ({ cls := "java/lang/StringBuilder", name := "<init>", desc := "(I)V" } : Jvm.MethodName) prog_36_method_2_code (2 : Nat) (Option.none : Option Jvm.ClassFile.FieldType)) ∈ lw_all := lw_g (lw_at lw_m2 21 rfl) rfl
theorem q366 : (Jvm.Cond.methodLink "java/lang/StringBuilder" (1 : Nat) ({ cls := "java/lang/AbstractStringBuilder", name := "<init>", desc := "(I)V" } : Jvm.MethodName)) ∈ lw_all := lw_g (lw_at lw_m2 22 rfl) rfl
theorem q383 : (Jvm.Cond.lays "java/lang/StringBuilder" "java/lang/AbstractStringBuilder" "value" "[B") ∈ lw_all := lw_g (lw_at lw_m2 39 rfl) rfl
theorem q385 : (Jvm.Cond.lays "java/lang/StringBuilder" "java/lang/AbstractStringBuilder" "coder" "B") ∈ lw_all := lw_g (lw_at lw_m2 41 rfl) rfl
theorem q387 : (Jvm.Cond.lays "java/lang/StringBuilder" "java/lang/AbstractStringBuilder" "maybeLatin1" "Z") ∈ lw_all := lw_g (lw_at lw_m2 43 rfl) rfl
theorem q389 : (Jvm.Cond.lays "java/lang/StringBuilder" "java/lang/AbstractStringBuilder" "count" "I") ∈ lw_all := lw_g (lw_at lw_m2 45 rfl) rfl
theorem q391 : (Jvm.Cond.superclass "java/lang/StringBuilder" "java/lang/AbstractStringBuilder") ∈ lw_all := lw_g (lw_at lw_m2 47 rfl) rfl
theorem q797 : (Jvm.Cond.instanceMethod ({ cls := "java/lang/StringBuilder", name := "length", desc := "()I" } : Jvm.MethodName)) ∈ lw_all := lw_g (lw_at lw_m3 213 rfl) rfl
theorem q798 : (Jvm.Cond.selects "java/lang/StringBuilder" ({ cls := "java/lang/StringBuilder", name := "length", desc := "()I" } : Jvm.MethodName) ({ cls := "java/lang/StringBuilder", name := "length", desc := "()I" } : Jvm.MethodName)) ∈ lw_all := lw_g (lw_at lw_m3 214 rfl) rfl
theorem q799 : (Jvm.Cond.code ({ cls := "java/lang/StringBuilder", name := "length", desc := "()I" } : Jvm.MethodName) prog_36_method_93_code (1 : Nat) (Option.some Jvm.ClassFile.FieldType.int)) ∈ lw_all := lw_g (lw_at lw_m3 215 rfl) rfl
theorem q800 : (Jvm.Cond.methodLink "java/lang/StringBuilder" (343 : Nat) ({ cls := "java/lang/AbstractStringBuilder", name := "length", desc := "()I" } : Jvm.MethodName)) ∈ lw_all := lw_g (lw_at lw_m3 216 rfl) rfl
theorem q804 : (Jvm.Cond.instanceMethod ({ cls := "java/lang/StringBuilder", name := "append", desc := "(C)Ljava/lang/StringBuilder;" } : Jvm.MethodName)) ∈ lw_all := lw_g (lw_at lw_m3 220 rfl) rfl
theorem q805 : (Jvm.Cond.selects "java/lang/StringBuilder" ({ cls := "java/lang/StringBuilder", name := "append", desc := "(C)Ljava/lang/StringBuilder;" } : Jvm.MethodName) ({ cls := "java/lang/StringBuilder", name := "append", desc := "(C)Ljava/lang/StringBuilder;" } : Jvm.MethodName)) ∈ lw_all := lw_g (lw_at lw_m3 221 rfl) rfl
theorem q806 : (Jvm.Cond.code ({ cls := "java/lang/StringBuilder", name := "append", desc := "(C)Ljava/lang/StringBuilder;" } : Jvm.MethodName) prog_36_method_14_code (2 : Nat) (Option.some (Jvm.ClassFile.FieldType.object "java/lang/StringBuilder"))) ∈ lw_all := lw_g (lw_at lw_m3 222 rfl) rfl
theorem q807 : (Jvm.Cond.methodLink "java/lang/StringBuilder" (50 : Nat) ({ cls := "java/lang/AbstractStringBuilder", name := "append", desc := "(C)Ljava/lang/AbstractStringBuilder;" } : Jvm.MethodName)) ∈ lw_all := lw_g (lw_at lw_m3 223 rfl) rfl
theorem q844 : (Jvm.Cond.selects "java/lang/StringBuilder" ({ cls := "java/lang/AbstractStringBuilder", name := "isLatin1", desc := "()Z" } : Jvm.MethodName) ({ cls := "java/lang/AbstractStringBuilder", name := "isLatin1", desc := "()Z" } : Jvm.MethodName)) ∈ lw_all := lw_g (lw_at lw_m4 20 rfl) rfl
theorem q920 : (Jvm.Cond.instanceMethod ({ cls := "java/lang/StringBuilder", name := "charAt", desc := "(I)C" } : Jvm.MethodName)) ∈ lw_all := lw_g (lw_at lw_m4 96 rfl) rfl
theorem q921 : (Jvm.Cond.selects "java/lang/StringBuilder" ({ cls := "java/lang/StringBuilder", name := "charAt", desc := "(I)C" } : Jvm.MethodName) ({ cls := "java/lang/StringBuilder", name := "charAt", desc := "(I)C" } : Jvm.MethodName)) ∈ lw_all := lw_g (lw_at lw_m4 97 rfl) rfl
theorem q922 : (Jvm.Cond.code ({ cls := "java/lang/StringBuilder", name := "charAt", desc := "(I)C" } : Jvm.MethodName) prog_36_method_88_code (2 : Nat) (Option.some Jvm.ClassFile.FieldType.char)) ∈ lw_all := lw_g (lw_at lw_m4 98 rfl) rfl
theorem q923 : (Jvm.Cond.methodLink "java/lang/StringBuilder" (329 : Nat) ({ cls := "java/lang/AbstractStringBuilder", name := "charAt", desc := "(I)C" } : Jvm.MethodName)) ∈ lw_all := lw_g (lw_at lw_m4 99 rfl) rfl
theorem q1110 : (Jvm.Cond.instanceMethod ({ cls := "java/lang/StringBuilder", name := "setLength", desc := "(I)V" } : Jvm.MethodName)) ∈ lw_all := lw_g (lw_at lw_m5 46 rfl) rfl
theorem q1111 : (Jvm.Cond.selects "java/lang/StringBuilder" ({ cls := "java/lang/StringBuilder", name := "setLength", desc := "(I)V" } : Jvm.MethodName) ({ cls := "java/lang/StringBuilder", name := "setLength", desc := "(I)V" } : Jvm.MethodName)) ∈ lw_all := lw_g (lw_at lw_m5 47 rfl) rfl
theorem q1112 : (Jvm.Cond.code ({ cls := "java/lang/StringBuilder", name := "setLength", desc := "(I)V" } : Jvm.MethodName) prog_36_method_89_code (2 : Nat) (Option.none : Option Jvm.ClassFile.FieldType)) ∈ lw_all := lw_g (lw_at lw_m5 48 rfl) rfl
theorem q1113 : (Jvm.Cond.methodLink "java/lang/StringBuilder" (333 : Nat) ({ cls := "java/lang/AbstractStringBuilder", name := "setLength", desc := "(I)V" } : Jvm.MethodName)) ∈ lw_all := lw_g (lw_at lw_m5 49 rfl) rfl
theorem q1368 : (Jvm.Cond.instanceMethod ({ cls := "java/lang/StringBuilder", name := "append", desc := "(I)Ljava/lang/StringBuilder;" } : Jvm.MethodName)) ∈ lw_all := lw_g (lw_at lw_m6 64 rfl) rfl
theorem q1369 : (Jvm.Cond.selects "java/lang/StringBuilder" ({ cls := "java/lang/StringBuilder", name := "append", desc := "(I)Ljava/lang/StringBuilder;" } : Jvm.MethodName) ({ cls := "java/lang/StringBuilder", name := "append", desc := "(I)Ljava/lang/StringBuilder;" } : Jvm.MethodName)) ∈ lw_all := lw_g (lw_at lw_m6 65 rfl) rfl
theorem q1370 : (Jvm.Cond.code ({ cls := "java/lang/StringBuilder", name := "append", desc := "(I)Ljava/lang/StringBuilder;" } : Jvm.MethodName) prog_36_method_15_code (2 : Nat) (Option.some (Jvm.ClassFile.FieldType.object "java/lang/StringBuilder"))) ∈ lw_all := lw_g (lw_at lw_m6 66 rfl) rfl
theorem q1371 : (Jvm.Cond.methodLink "java/lang/StringBuilder" (53 : Nat) ({ cls := "java/lang/AbstractStringBuilder", name := "append", desc := "(I)Ljava/lang/AbstractStringBuilder;" } : Jvm.MethodName)) ∈ lw_all := lw_g (lw_at lw_m6 67 rfl) rfl
theorem q1933 : (Jvm.Cond.castable "java/lang/StringBuilder" "java/lang/Object") ∈ lw_tbl := lw_at lw_m8 149 rfl
theorem in_J1 : ∀ w ∈ wsJ10, w ∈ lw_all := lw_in wsJ10 [383, 385, 387, 389] (by decide +kernel) (by decide +kernel)
/-! java/lang/String -/
def RJ2 : String := "java/lang/String"
abbrev cJ2_checkBoundsOffCount : ByteArray := prog_35_method_157_code
def yJ2_checkBoundsOffCount : MethodName := ⟨RJ2, "checkBoundsOffCount", "(III)I"⟩
abbrev cJ2_checkIndex : ByteArray := prog_35_method_155_code
def yJ2_checkIndex : MethodName := ⟨RJ2, "checkIndex", "(II)V"⟩
abbrev cJ2_checkBoundsBeginEnd : ByteArray := prog_35_method_158_code
def yJ2_checkBoundsBeginEnd : MethodName := ⟨RJ2, "checkBoundsBeginEnd", "(III)V"⟩
theorem q115 : (Jvm.Cond.initialized "java/lang/String") ∈ lw_all := lw_g (lw_at lw_m1 11 rfl) rfl
theorem q371 : (Jvm.Cond.laysStatic "java/lang/String" "COMPACT_STRINGS" "Z") ∈ lw_tbl := lw_at lw_m2 27 rfl
theorem q866 : (Jvm.Cond.static ({ cls := "java/lang/String", name := "checkBoundsOffCount", desc := "(III)I" } : Jvm.MethodName)) ∈ lw_all := lw_g (lw_at lw_m4 42 rfl) rfl
theorem q867 : (Jvm.Cond.code ({ cls := "java/lang/String", name := "checkBoundsOffCount", desc := "(III)I" } : Jvm.MethodName) prog_35_method_157_code (3 : Nat) (Option.some Jvm.ClassFile.FieldType.int)) ∈ lw_all := lw_g (lw_at lw_m4 43 rfl) rfl
theorem q868 : (Jvm.Cond.fieldLink "java/lang/String" (1053 : Nat) "jdk/internal/util/Preconditions" "SIOOBE_FORMATTER" "Ljava/util/function/BiFunction;") ∈ lw_all := lw_g (lw_at lw_m4 44 rfl) rfl
theorem q870 : (Jvm.Cond.methodLink "java/lang/String" (1065 : Nat) ({ cls := "jdk/internal/util/Preconditions", name := "checkFromIndexSize", desc := "(IIILjava/util/function/BiFunction;)I" } : Jvm.MethodName)) ∈ lw_all := lw_g (lw_at lw_m4 46 rfl) rfl
theorem q889 : (Jvm.Cond.static ({ cls := "java/lang/String", name := "checkIndex", desc := "(II)V" } : Jvm.MethodName)) ∈ lw_all := lw_g (lw_at lw_m4 65 rfl) rfl
theorem q890 : (Jvm.Cond.code ({ cls := "java/lang/String", name := "checkIndex", desc := "(II)V" } : Jvm.MethodName) prog_35_method_155_code (2 : Nat) (Option.none : Option Jvm.ClassFile.FieldType)) ∈ lw_all := lw_g (lw_at lw_m4 66 rfl) rfl
theorem q891 : (Jvm.Cond.methodLink "java/lang/String" (1059 : Nat) ({ cls := "jdk/internal/util/Preconditions", name := "checkIndex", desc := "(IILjava/util/function/BiFunction;)I" } : Jvm.MethodName)) ∈ lw_all := lw_g (lw_at lw_m4 67 rfl) rfl
theorem q1391 : (Jvm.Cond.static ({ cls := "java/lang/String", name := "checkBoundsBeginEnd", desc := "(III)V" } : Jvm.MethodName)) ∈ lw_all := lw_g (lw_at lw_m6 87 rfl) rfl
theorem q1392 : (Jvm.Cond.code ({ cls := "java/lang/String", name := "checkBoundsBeginEnd", desc := "(III)V" } : Jvm.MethodName) prog_35_method_158_code (3 : Nat) (Option.none : Option Jvm.ClassFile.FieldType)) ∈ lw_all := lw_g (lw_at lw_m6 88 rfl) rfl
theorem q1393 : (Jvm.Cond.methodLink "java/lang/String" (1062 : Nat) ({ cls := "jdk/internal/util/Preconditions", name := "checkFromToIndex", desc := "(IIILjava/util/function/BiFunction;)I" } : Jvm.MethodName)) ∈ lw_all := lw_g (lw_at lw_m6 89 rfl) rfl
/-! java/lang/StringUTF16 -/
def RJ3 : String := "java/lang/StringUTF16"
abbrev cJ3_newBytesFor : ByteArray := prog_38_method_2_code
def yJ3_newBytesFor : MethodName := ⟨RJ3, "newBytesFor", "(I)[B"⟩
abbrev cJ3_newBytesLength : ByteArray := prog_38_method_3_code
def yJ3_newBytesLength : MethodName := ⟨RJ3, "newBytesLength", "(I)I"⟩
abbrev cJ3_inflate : ByteArray := prog_38_method_86_code
def yJ3_inflate : MethodName := ⟨RJ3, "inflate", "([BI[BII)V"⟩
abbrev cJ3_checkBoundsOffCount : ByteArray := prog_38_method_94_code
def yJ3_checkBoundsOffCount : MethodName := ⟨RJ3, "checkBoundsOffCount", "(II[B)V"⟩
abbrev cJ3_length : ByteArray := prog_38_method_6_code
def yJ3_length : MethodName := ⟨RJ3, "length", "([B)I"⟩
abbrev cJ3_putChar : ByteArray := prog_38_method_4_code
def yJ3_putChar : MethodName := ⟨RJ3, "putChar", "([BII)V"⟩
abbrev cJ3_putCharSB : ByteArray := prog_38_method_71_code
def yJ3_putCharSB : MethodName := ⟨RJ3, "putCharSB", "([BII)V"⟩
abbrev cJ3_checkIndex : ByteArray := prog_38_method_91_code
def yJ3_checkIndex : MethodName := ⟨RJ3, "checkIndex", "(I[B)V"⟩
abbrev cJ3_getChar : ByteArray := prog_38_method_5_code
def yJ3_getChar : MethodName := ⟨RJ3, "getChar", "([BI)C"⟩
abbrev cJ3_fillNull : ByteArray := prog_38_method_70_code
def yJ3_fillNull : MethodName := ⟨RJ3, "fillNull", "([BII)V"⟩
abbrev cJ3_getChars : ByteArray := prog_38_method_77_code
def yJ3_getChars : MethodName := ⟨RJ3, "getChars", "(III[B)I"⟩
abbrev cJ3_checkBoundsBeginEnd : ByteArray := prog_38_method_93_code
def yJ3_checkBoundsBeginEnd : MethodName := ⟨RJ3, "checkBoundsBeginEnd", "(II[B)V"⟩
abbrev cJ3_getChars_2 : ByteArray := prog_38_method_89_code
def yJ3_getChars_2 : MethodName := ⟨RJ3, "getChars", "(II[B)I"⟩
theorem q116 : (Jvm.Cond.initialized "java/lang/StringUTF16") ∈ lw_all := lw_g (lw_at lw_m1 12 rfl) rfl
theorem q373 : (Jvm.Cond.static ({ cls := "java/lang/StringUTF16", name := "newBytesFor", desc := "(I)[B" } : Jvm.MethodName)) ∈ lw_all := lw_g (lw_at lw_m2 29 rfl) rfl
theorem q374 : (Jvm.Cond.code ({ cls := "java/lang/StringUTF16", name := "newBytesFor", desc := "(I)[B" } : Jvm.MethodName) prog_38_method_2_code (1 : Nat) (Option.some (Jvm.ClassFile.FieldType.array Jvm.ClassFile.FieldType.byte))) ∈ lw_all := lw_g (lw_at lw_m2 30 rfl) rfl
theorem q375 : (Jvm.Cond.methodLink "java/lang/StringUTF16" (11 : Nat) ({ cls := "java/lang/StringUTF16", name := "newBytesLength", desc := "(I)I" } : Jvm.MethodName)) ∈ lw_all := lw_g (lw_at lw_m2 31 rfl) rfl
theorem q376 : (Jvm.Cond.static ({ cls := "java/lang/StringUTF16", name := "newBytesLength", desc := "(I)I" } : Jvm.MethodName)) ∈ lw_all := lw_g (lw_at lw_m2 32 rfl) rfl
theorem q377 : (Jvm.Cond.code ({ cls := "java/lang/StringUTF16", name := "newBytesLength", desc := "(I)I" } : Jvm.MethodName) prog_38_method_3_code (1 : Nat) (Option.some Jvm.ClassFile.FieldType.int)) ∈ lw_all := lw_g (lw_at lw_m2 33 rfl) rfl
theorem q378 : (Jvm.Cond.constant "java/lang/StringUTF16" (20 : Nat) (1073741823 : Int32)) ∈ lw_all := lw_g (lw_at lw_m2 34 rfl) rfl
theorem q857 : (Jvm.Cond.static ({ cls := "java/lang/StringUTF16", name := "inflate", desc := "([BI[BII)V" } : Jvm.MethodName)) ∈ lw_all := lw_g (lw_at lw_m4 33 rfl) rfl
theorem q858 : (Jvm.Cond.code ({ cls := "java/lang/StringUTF16", name := "inflate", desc := "([BI[BII)V" } : Jvm.MethodName) prog_38_method_86_code (6 : Nat) (Option.none : Option Jvm.ClassFile.FieldType)) ∈ lw_all := lw_g (lw_at lw_m4 34 rfl) rfl
theorem q859 : (Jvm.Cond.methodLink "java/lang/StringUTF16" (173 : Nat) ({ cls := "java/lang/StringUTF16", name := "checkBoundsOffCount", desc := "(II[B)V" } : Jvm.MethodName)) ∈ lw_all := lw_g (lw_at lw_m4 35 rfl) rfl
theorem q860 : (Jvm.Cond.static ({ cls := "java/lang/StringUTF16", name := "checkBoundsOffCount", desc := "(II[B)V" } : Jvm.MethodName)) ∈ lw_all := lw_g (lw_at lw_m4 36 rfl) rfl
theorem q861 : (Jvm.Cond.code ({ cls := "java/lang/StringUTF16", name := "checkBoundsOffCount", desc := "(II[B)V" } : Jvm.MethodName) prog_38_method_94_code (3 : Nat) (Option.none : Option Jvm.ClassFile.FieldType)) ∈ lw_all := lw_g (lw_at lw_m4 37 rfl) rfl
theorem q862 : (Jvm.Cond.methodLink "java/lang/StringUTF16" (48 : Nat) ({ cls := "java/lang/StringUTF16", name := "length", desc := "([B)I" } : Jvm.MethodName)) ∈ lw_all := lw_g (lw_at lw_m4 38 rfl) rfl
theorem q863 : (Jvm.Cond.static ({ cls := "java/lang/StringUTF16", name := "length", desc := "([B)I" } : Jvm.MethodName)) ∈ lw_all := lw_g (lw_at lw_m4 39 rfl) rfl
theorem q864 : (Jvm.Cond.code ({ cls := "java/lang/StringUTF16", name := "length", desc := "([B)I" } : Jvm.MethodName) prog_38_method_6_code (1 : Nat) (Option.some Jvm.ClassFile.FieldType.int)) ∈ lw_all := lw_g (lw_at lw_m4 40 rfl) rfl
theorem q865 : (Jvm.Cond.methodLink "java/lang/StringUTF16" (419 : Nat) ({ cls := "java/lang/String", name := "checkBoundsOffCount", desc := "(III)I" } : Jvm.MethodName)) ∈ lw_all := lw_g (lw_at lw_m4 41 rfl) rfl
theorem q873 : (Jvm.Cond.methodLink "java/lang/StringUTF16" (111 : Nat) ({ cls := "java/lang/StringUTF16", name := "putChar", desc := "([BII)V" } : Jvm.MethodName)) ∈ lw_all := lw_g (lw_at lw_m4 49 rfl) rfl
theorem q874 : (Jvm.Cond.static ({ cls := "java/lang/StringUTF16", name := "putChar", desc := "([BII)V" } : Jvm.MethodName)) ∈ lw_all := lw_g (lw_at lw_m4 50 rfl) rfl
theorem q875 : (Jvm.Cond.code ({ cls := "java/lang/StringUTF16", name := "putChar", desc := "([BII)V" } : Jvm.MethodName) prog_38_method_4_code (3 : Nat) (Option.none : Option Jvm.ClassFile.FieldType)) ∈ lw_all := lw_g (lw_at lw_m4 51 rfl) rfl
theorem q876 : (Jvm.Cond.fieldLink "java/lang/StringUTF16" (44 : Nat) "java/lang/StringUTF16" "$assertionsDisabled" "Z") ∈ lw_all := lw_g (lw_at lw_m4 52 rfl) rfl
theorem q877 : (Jvm.Cond.laysStatic "java/lang/StringUTF16" "$assertionsDisabled" "Z") ∈ lw_tbl := lw_at lw_m4 53 rfl
theorem q878 : (Jvm.Cond.fieldLink "java/lang/StringUTF16" (59 : Nat) "java/lang/StringUTF16" "HI_BYTE_SHIFT" "I") ∈ lw_all := lw_g (lw_at lw_m4 54 rfl) rfl
theorem q879 : (Jvm.Cond.laysStatic "java/lang/StringUTF16" "HI_BYTE_SHIFT" "I") ∈ lw_tbl := lw_at lw_m4 55 rfl
theorem q880 : (Jvm.Cond.fieldLink "java/lang/StringUTF16" (63 : Nat) "java/lang/StringUTF16" "LO_BYTE_SHIFT" "I") ∈ lw_all := lw_g (lw_at lw_m4 56 rfl) rfl
theorem q881 : (Jvm.Cond.laysStatic "java/lang/StringUTF16" "LO_BYTE_SHIFT" "I") ∈ lw_tbl := lw_at lw_m4 57 rfl
theorem q883 : (Jvm.Cond.static ({ cls := "java/lang/StringUTF16", name := "putCharSB", desc := "([BII)V" } : Jvm.MethodName)) ∈ lw_all := lw_g (lw_at lw_m4 59 rfl) rfl
theorem q884 : (Jvm.Cond.code ({ cls := "java/lang/StringUTF16", name := "putCharSB", desc := "([BII)V" } : Jvm.MethodName) prog_38_method_71_code (3 : Nat) (Option.none : Option Jvm.ClassFile.FieldType)) ∈ lw_all := lw_g (lw_at lw_m4 60 rfl) rfl
theorem q885 : (Jvm.Cond.methodLink "java/lang/StringUTF16" (67 : Nat) ({ cls := "java/lang/StringUTF16", name := "checkIndex", desc := "(I[B)V" } : Jvm.MethodName)) ∈ lw_all := lw_g (lw_at lw_m4 61 rfl) rfl
theorem q886 : (Jvm.Cond.static ({ cls := "java/lang/StringUTF16", name := "checkIndex", desc := "(I[B)V" } : Jvm.MethodName)) ∈ lw_all := lw_g (lw_at lw_m4 62 rfl) rfl
theorem q887 : (Jvm.Cond.code ({ cls := "java/lang/StringUTF16", name := "checkIndex", desc := "(I[B)V" } : Jvm.MethodName) prog_38_method_91_code (2 : Nat) (Option.none : Option Jvm.ClassFile.FieldType)) ∈ lw_all := lw_g (lw_at lw_m4 63 rfl) rfl
theorem q888 : (Jvm.Cond.methodLink "java/lang/StringUTF16" (414 : Nat) ({ cls := "java/lang/String", name := "checkIndex", desc := "(II)V" } : Jvm.MethodName)) ∈ lw_all := lw_g (lw_at lw_m4 64 rfl) rfl
theorem q929 : (Jvm.Cond.static ({ cls := "java/lang/StringUTF16", name := "getChar", desc := "([BI)C" } : Jvm.MethodName)) ∈ lw_all := lw_g (lw_at lw_m4 105 rfl) rfl
theorem q930 : (Jvm.Cond.code ({ cls := "java/lang/StringUTF16", name := "getChar", desc := "([BI)C" } : Jvm.MethodName) prog_38_method_5_code (2 : Nat) (Option.some Jvm.ClassFile.FieldType.char)) ∈ lw_all := lw_g (lw_at lw_m4 106 rfl) rfl
theorem q1126 : (Jvm.Cond.static ({ cls := "java/lang/StringUTF16", name := "fillNull", desc := "([BII)V" } : Jvm.MethodName)) ∈ lw_all := lw_g (lw_at lw_m5 62 rfl) rfl
theorem q1127 : (Jvm.Cond.code ({ cls := "java/lang/StringUTF16", name := "fillNull", desc := "([BII)V" } : Jvm.MethodName) prog_38_method_70_code (3 : Nat) (Option.none : Option Jvm.ClassFile.FieldType)) ∈ lw_all := lw_g (lw_at lw_m5 63 rfl) rfl
theorem q1128 : (Jvm.Cond.methodLink "java/lang/StringUTF16" (380 : Nat) ({ cls := "java/util/Arrays", name := "fill", desc := "([BIIB)V" } : Jvm.MethodName)) ∈ lw_all := lw_g (lw_at lw_m5 64 rfl) rfl
theorem q1385 : (Jvm.Cond.static ({ cls := "java/lang/StringUTF16", name := "getChars", desc := "(III[B)I" } : Jvm.MethodName)) ∈ lw_all := lw_g (lw_at lw_m6 81 rfl) rfl
theorem q1386 : (Jvm.Cond.code ({ cls := "java/lang/StringUTF16", name := "getChars", desc := "(III[B)I" } : Jvm.MethodName) prog_38_method_77_code (5 : Nat) (Option.some Jvm.ClassFile.FieldType.int)) ∈ lw_all := lw_g (lw_at lw_m6 82 rfl) rfl
theorem q1387 : (Jvm.Cond.methodLink "java/lang/StringUTF16" (96 : Nat) ({ cls := "java/lang/StringUTF16", name := "checkBoundsBeginEnd", desc := "(II[B)V" } : Jvm.MethodName)) ∈ lw_all := lw_g (lw_at lw_m6 83 rfl) rfl
theorem q1388 : (Jvm.Cond.static ({ cls := "java/lang/StringUTF16", name := "checkBoundsBeginEnd", desc := "(II[B)V" } : Jvm.MethodName)) ∈ lw_all := lw_g (lw_at lw_m6 84 rfl) rfl
theorem q1389 : (Jvm.Cond.code ({ cls := "java/lang/StringUTF16", name := "checkBoundsBeginEnd", desc := "(II[B)V" } : Jvm.MethodName) prog_38_method_93_code (3 : Nat) (Option.none : Option Jvm.ClassFile.FieldType)) ∈ lw_all := lw_g (lw_at lw_m6 85 rfl) rfl
theorem q1390 : (Jvm.Cond.methodLink "java/lang/StringUTF16" (241 : Nat) ({ cls := "java/lang/String", name := "checkBoundsBeginEnd", desc := "(III)V" } : Jvm.MethodName)) ∈ lw_all := lw_g (lw_at lw_m6 86 rfl) rfl
theorem q1396 : (Jvm.Cond.methodLink "java/lang/StringUTF16" (393 : Nat) ({ cls := "java/lang/StringUTF16", name := "getChars", desc := "(II[B)I" } : Jvm.MethodName)) ∈ lw_all := lw_g (lw_at lw_m6 92 rfl) rfl
theorem q1397 : (Jvm.Cond.static ({ cls := "java/lang/StringUTF16", name := "getChars", desc := "(II[B)I" } : Jvm.MethodName)) ∈ lw_all := lw_g (lw_at lw_m6 93 rfl) rfl
theorem q1398 : (Jvm.Cond.code ({ cls := "java/lang/StringUTF16", name := "getChars", desc := "(II[B)I" } : Jvm.MethodName) prog_38_method_89_code (7 : Nat) (Option.some Jvm.ClassFile.FieldType.int)) ∈ lw_all := lw_g (lw_at lw_m6 94 rfl) rfl
theorem q1399 : (Jvm.Cond.fieldLink "java/lang/StringUTF16" (403 : Nat) "java/lang/Integer" "DigitOnes" "[B") ∈ lw_all := lw_g (lw_at lw_m6 95 rfl) rfl
theorem q1400 : (Jvm.Cond.fieldLink "java/lang/StringUTF16" (407 : Nat) "java/lang/Integer" "DigitTens" "[B") ∈ lw_all := lw_g (lw_at lw_m6 96 rfl) rfl
/-! jdk/internal/util/ArraysSupport -/
def RJ4 : String := "jdk/internal/util/ArraysSupport"
abbrev cJ4_newLength : ByteArray := prog_51_method_27_code
def yJ4_newLength : MethodName := ⟨RJ4, "newLength", "(III)I"⟩
abbrev cJ4_hugeLength : ByteArray := prog_51_method_28_code
def yJ4_hugeLength : MethodName := ⟨RJ4, "hugeLength", "(II)I"⟩
theorem q118 : (Jvm.Cond.initialized "jdk/internal/util/ArraysSupport") ∈ lw_all := lw_g (lw_at lw_m1 14 rfl) rfl
theorem q819 : (Jvm.Cond.static ({ cls := "jdk/internal/util/ArraysSupport", name := "newLength", desc := "(III)I" } : Jvm.MethodName)) ∈ lw_all := lw_g (lw_at lw_m3 235 rfl) rfl
theorem q820 : (Jvm.Cond.code ({ cls := "jdk/internal/util/ArraysSupport", name := "newLength", desc := "(III)I" } : Jvm.MethodName) prog_51_method_27_code (4 : Nat) (Option.some Jvm.ClassFile.FieldType.int)) ∈ lw_all := lw_g (lw_at lw_m3 236 rfl) rfl
theorem q821 : (Jvm.Cond.methodLink "jdk/internal/util/ArraysSupport" (194 : Nat) ({ cls := "java/lang/Math", name := "max", desc := "(II)I" } : Jvm.MethodName)) ∈ lw_all := lw_g (lw_at lw_m3 237 rfl) rfl
theorem q824 : (Jvm.Cond.constant "jdk/internal/util/ArraysSupport" (200 : Nat) (2147483639 : Int32)) ∈ lw_all := lw_g (lw_at lw_m4 0 rfl) rfl
theorem q825 : (Jvm.Cond.methodLink "jdk/internal/util/ArraysSupport" (201 : Nat) ({ cls := "jdk/internal/util/ArraysSupport", name := "hugeLength", desc := "(II)I" } : Jvm.MethodName)) ∈ lw_all := lw_g (lw_at lw_m4 1 rfl) rfl
theorem q826 : (Jvm.Cond.static ({ cls := "jdk/internal/util/ArraysSupport", name := "hugeLength", desc := "(II)I" } : Jvm.MethodName)) ∈ lw_all := lw_g (lw_at lw_m4 2 rfl) rfl
theorem q827 : (Jvm.Cond.code ({ cls := "jdk/internal/util/ArraysSupport", name := "hugeLength", desc := "(II)I" } : Jvm.MethodName) prog_51_method_28_code (3 : Nat) (Option.some Jvm.ClassFile.FieldType.int)) ∈ lw_all := lw_g (lw_at lw_m4 3 rfl) rfl
/-! java/lang/Math -/
def RJ5 : String := "java/lang/Math"
abbrev cJ5_min : ByteArray := prog_32_method_69_code
def yJ5_min : MethodName := ⟨RJ5, "min", "(II)I"⟩
abbrev cJ5_max : ByteArray := prog_32_method_65_code
def yJ5_max : MethodName := ⟨RJ5, "max", "(II)I"⟩
theorem q119 : (Jvm.Cond.initialized "java/lang/Math") ∈ lw_all := lw_g (lw_at lw_m1 15 rfl) rfl
theorem q666 : (Jvm.Cond.static ({ cls := "java/lang/Math", name := "min", desc := "(II)I" } : Jvm.MethodName)) ∈ lw_all := lw_g (lw_at lw_m3 82 rfl) rfl
theorem q667 : (Jvm.Cond.code ({ cls := "java/lang/Math", name := "min", desc := "(II)I" } : Jvm.MethodName) prog_32_method_69_code (2 : Nat) (Option.some Jvm.ClassFile.FieldType.int)) ∈ lw_all := lw_g (lw_at lw_m3 83 rfl) rfl
theorem q822 : (Jvm.Cond.static ({ cls := "java/lang/Math", name := "max", desc := "(II)I" } : Jvm.MethodName)) ∈ lw_all := lw_g (lw_at lw_m3 238 rfl) rfl
theorem q823 : (Jvm.Cond.code ({ cls := "java/lang/Math", name := "max", desc := "(II)I" } : Jvm.MethodName) prog_32_method_65_code (2 : Nat) (Option.some Jvm.ClassFile.FieldType.int)) ∈ lw_all := lw_g (lw_at lw_m3 239 rfl) rfl
/-! java/util/Arrays -/
def RJ6 : String := "java/util/Arrays"
abbrev cJ6_copyOf : ByteArray := prog_44_method_121_code
def yJ6_copyOf : MethodName := ⟨RJ6, "copyOf", "([BI)[B"⟩
abbrev cJ6_fill : ByteArray := prog_44_method_110_code
def yJ6_fill : MethodName := ⟨RJ6, "fill", "([BIIB)V"⟩
abbrev cJ6_rangeCheck : ByteArray := prog_44_method_30_code
def yJ6_rangeCheck : MethodName := ⟨RJ6, "rangeCheck", "(III)V"⟩
theorem q120 : (Jvm.Cond.initialized "java/util/Arrays") ∈ lw_all := lw_g (lw_at lw_m1 16 rfl) rfl
theorem q830 : (Jvm.Cond.static ({ cls := "java/util/Arrays", name := "copyOf", desc := "([BI)[B" } : Jvm.MethodName)) ∈ lw_all := lw_g (lw_at lw_m4 6 rfl) rfl
theorem q831 : (Jvm.Cond.code ({ cls := "java/util/Arrays", name := "copyOf", desc := "([BI)[B" } : Jvm.MethodName) prog_44_method_121_code (3 : Nat) (Option.some (Jvm.ClassFile.FieldType.array Jvm.ClassFile.FieldType.byte))) ∈ lw_all := lw_g (lw_at lw_m4 7 rfl) rfl
theorem q832 : (Jvm.Cond.methodLink "java/util/Arrays" (310 : Nat) ({ cls := "[B", name := "clone", desc := "()Ljava/lang/Object;" } : Jvm.MethodName)) ∈ lw_all := lw_g (lw_at lw_m4 8 rfl) rfl
theorem q838 : (Jvm.Cond.classLink "java/util/Arrays" (311 : Nat) "[B") ∈ lw_all := lw_g (lw_at lw_m4 14 rfl) rfl
theorem q839 : (Jvm.Cond.methodLink "java/util/Arrays" (304 : Nat) ({ cls := "java/lang/Math", name := "min", desc := "(II)I" } : Jvm.MethodName)) ∈ lw_all := lw_g (lw_at lw_m4 15 rfl) rfl
theorem q840 : (Jvm.Cond.methodLink "java/util/Arrays" (150 : Nat) ({ cls := "java/lang/System", name := "arraycopy", desc := "(Ljava/lang/Object;ILjava/lang/Object;II)V" } : Jvm.MethodName)) ∈ lw_all := lw_g (lw_at lw_m4 16 rfl) rfl
theorem q1120 : (Jvm.Cond.static ({ cls := "java/util/Arrays", name := "fill", desc := "([BIIB)V" } : Jvm.MethodName)) ∈ lw_all := lw_g (lw_at lw_m5 56 rfl) rfl
theorem q1121 : (Jvm.Cond.code ({ cls := "java/util/Arrays", name := "fill", desc := "([BIIB)V" } : Jvm.MethodName) prog_44_method_110_code (5 : Nat) (Option.none : Option Jvm.ClassFile.FieldType)) ∈ lw_all := lw_g (lw_at lw_m5 57 rfl) rfl
theorem q1122 : (Jvm.Cond.methodLink "java/util/Arrays" (13 : Nat) ({ cls := "java/util/Arrays", name := "rangeCheck", desc := "(III)V" } : Jvm.MethodName)) ∈ lw_all := lw_g (lw_at lw_m5 58 rfl) rfl
theorem q1123 : (Jvm.Cond.static ({ cls := "java/util/Arrays", name := "rangeCheck", desc := "(III)V" } : Jvm.MethodName)) ∈ lw_all := lw_g (lw_at lw_m5 59 rfl) rfl
theorem q1124 : (Jvm.Cond.code ({ cls := "java/util/Arrays", name := "rangeCheck", desc := "(III)V" } : Jvm.MethodName) prog_44_method_30_code (3 : Nat) (Option.none : Option Jvm.ClassFile.FieldType)) ∈ lw_all := lw_g (lw_at lw_m5 60 rfl) rfl
/-! java/lang/StringLatin1 -/
def RJ7 : String := "java/lang/StringLatin1"
abbrev cJ7_canEncode : ByteArray := prog_37_method_3_code
def yJ7_canEncode : MethodName := ⟨RJ7, "canEncode", "(C)Z"⟩
abbrev cJ7_inflate : ByteArray := prog_37_method_50_code
def yJ7_inflate : MethodName := ⟨RJ7, "inflate", "([BI[BII)V"⟩
abbrev cJ7_fillNull : ByteArray := prog_37_method_48_code
def yJ7_fillNull : MethodName := ⟨RJ7, "fillNull", "([BII)V"⟩
theorem q122 : (Jvm.Cond.initialized "java/lang/StringLatin1") ∈ lw_all := lw_g (lw_at lw_m1 18 rfl) rfl
theorem q847 : (Jvm.Cond.static ({ cls := "java/lang/StringLatin1", name := "canEncode", desc := "(C)Z" } : Jvm.MethodName)) ∈ lw_all := lw_g (lw_at lw_m4 23 rfl) rfl
theorem q848 : (Jvm.Cond.code ({ cls := "java/lang/StringLatin1", name := "canEncode", desc := "(C)Z" } : Jvm.MethodName) prog_37_method_3_code (1 : Nat) (Option.some Jvm.ClassFile.FieldType.boolean)) ∈ lw_all := lw_g (lw_at lw_m4 24 rfl) rfl
theorem q854 : (Jvm.Cond.static ({ cls := "java/lang/StringLatin1", name := "inflate", desc := "([BI[BII)V" } : Jvm.MethodName)) ∈ lw_all := lw_g (lw_at lw_m4 30 rfl) rfl
theorem q855 : (Jvm.Cond.code ({ cls := "java/lang/StringLatin1", name := "inflate", desc := "([BI[BII)V" } : Jvm.MethodName) prog_37_method_50_code (5 : Nat) (Option.none : Option Jvm.ClassFile.FieldType)) ∈ lw_all := lw_g (lw_at lw_m4 31 rfl) rfl
theorem q856 : (Jvm.Cond.methodLink "java/lang/StringLatin1" (240 : Nat) ({ cls := "java/lang/StringUTF16", name := "inflate", desc := "([BI[BII)V" } : Jvm.MethodName)) ∈ lw_all := lw_g (lw_at lw_m4 32 rfl) rfl
theorem q1117 : (Jvm.Cond.static ({ cls := "java/lang/StringLatin1", name := "fillNull", desc := "([BII)V" } : Jvm.MethodName)) ∈ lw_all := lw_g (lw_at lw_m5 53 rfl) rfl
theorem q1118 : (Jvm.Cond.code ({ cls := "java/lang/StringLatin1", name := "fillNull", desc := "([BII)V" } : Jvm.MethodName) prog_37_method_48_code (3 : Nat) (Option.none : Option Jvm.ClassFile.FieldType)) ∈ lw_all := lw_g (lw_at lw_m5 54 rfl) rfl
theorem q1119 : (Jvm.Cond.methodLink "java/lang/StringLatin1" (236 : Nat) ({ cls := "java/util/Arrays", name := "fill", desc := "([BIIB)V" } : Jvm.MethodName)) ∈ lw_all := lw_g (lw_at lw_m5 55 rfl) rfl
/-! jdk/internal/util/Preconditions -/
def RJ8 : String := "jdk/internal/util/Preconditions"
abbrev cJ8_checkFromIndexSize : ByteArray := prog_52_method_13_code
def yJ8_checkFromIndexSize : MethodName := ⟨RJ8, "checkFromIndexSize", "(IIILjava/util/function/BiFunction;)I"⟩
abbrev cJ8_checkIndex : ByteArray := prog_52_method_11_code
def yJ8_checkIndex : MethodName := ⟨RJ8, "checkIndex", "(IILjava/util/function/BiFunction;)I"⟩
abbrev cJ8_checkFromToIndex : ByteArray := prog_52_method_12_code
def yJ8_checkFromToIndex : MethodName := ⟨RJ8, "checkFromToIndex", "(IIILjava/util/function/BiFunction;)I"⟩
theorem q123 : (Jvm.Cond.initialized "jdk/internal/util/Preconditions") ∈ lw_all := lw_g (lw_at lw_m1 19 rfl) rfl
theorem q869 : (Jvm.Cond.laysStatic "jdk/internal/util/Preconditions" "SIOOBE_FORMATTER" "Ljava/util/function/BiFunction;") ∈ lw_tbl := lw_at lw_m4 45 rfl
theorem q871 : (Jvm.Cond.static ({ cls := "jdk/internal/util/Preconditions", name := "checkFromIndexSize", desc := "(IIILjava/util/function/BiFunction;)I" } : Jvm.MethodName)) ∈ lw_all := lw_g (lw_at lw_m4 47 rfl) rfl
theorem q872 : (Jvm.Cond.code ({ cls := "jdk/internal/util/Preconditions", name := "checkFromIndexSize", desc := "(IIILjava/util/function/BiFunction;)I" } : Jvm.MethodName) prog_52_method_13_code (4 : Nat) (Option.some Jvm.ClassFile.FieldType.int)) ∈ lw_all := lw_g (lw_at lw_m4 48 rfl) rfl
theorem q892 : (Jvm.Cond.static ({ cls := "jdk/internal/util/Preconditions", name := "checkIndex", desc := "(IILjava/util/function/BiFunction;)I" } : Jvm.MethodName)) ∈ lw_all := lw_g (lw_at lw_m4 68 rfl) rfl
theorem q893 : (Jvm.Cond.code ({ cls := "jdk/internal/util/Preconditions", name := "checkIndex", desc := "(IILjava/util/function/BiFunction;)I" } : Jvm.MethodName) prog_52_method_11_code (3 : Nat) (Option.some Jvm.ClassFile.FieldType.int)) ∈ lw_all := lw_g (lw_at lw_m4 69 rfl) rfl
theorem q1394 : (Jvm.Cond.static ({ cls := "jdk/internal/util/Preconditions", name := "checkFromToIndex", desc := "(IIILjava/util/function/BiFunction;)I" } : Jvm.MethodName)) ∈ lw_all := lw_g (lw_at lw_m6 90 rfl) rfl
theorem q1395 : (Jvm.Cond.code ({ cls := "jdk/internal/util/Preconditions", name := "checkFromToIndex", desc := "(IIILjava/util/function/BiFunction;)I" } : Jvm.MethodName) prog_52_method_12_code (4 : Nat) (Option.some Jvm.ClassFile.FieldType.int)) ∈ lw_all := lw_g (lw_at lw_m6 91 rfl) rfl
/-! java/lang/Throwable -/
def RJ9 : String := "java/lang/Throwable"
def TJ9 : u_T := fun k => match k with
  | 0 => ("java/lang/Throwable", "cause", "Ljava/lang/Throwable;", false)
  | 1 => ("java/lang/Throwable", "stackTrace", "[Ljava/lang/StackTraceElement;", false)
  | 2 => ("java/lang/Throwable", "suppressedExceptions", "Ljava/util/List;", false)
  | 3 => ("java/lang/Throwable", "detailMessage", "Ljava/lang/String;", false)
  | _ => ("java/lang/Throwable", "backtrace", "Ljava/lang/Object;", false)
def tyJ9 : Nat → FieldType := fun k => match k with
  | 0 => .object "java/lang/Throwable"
  | 1 => .array (.object "java/lang/StackTraceElement")
  | 2 => .object "java/util/List"
  | 3 => .object "java/lang/String"
  | _ => .object "java/lang/Object"
abbrev wsJ90 : List Cond := u_ws RJ9 TJ9 5
theorem nmJ9 : ∀ a, a < 5 → ∀ b, b < 5 → a ≠ b → (TJ9 a).2.1 ≠ (TJ9 b).2.1 := by decide +kernel
theorem tyJ9_ok : ∀ k, k < 5 → parseFieldDescriptor (TJ9 k).2.2.1 = some (tyJ9 k) := by decide +kernel
abbrev cJ9_init : ByteArray := prog_40_method_1_code
def yJ9_init : MethodName := ⟨RJ9, "<init>", "()V"⟩
abbrev cJ9_init_2 : ByteArray := prog_40_method_5_code
def yJ9_init_2 : MethodName := ⟨RJ9, "<init>", "(Ljava/lang/String;Ljava/lang/Throwable;ZZ)V"⟩
theorem q124 : (Jvm.Cond.initialized "java/lang/Throwable") ∈ lw_all := lw_g (lw_at lw_m1 20 rfl) rfl
theorem q520 : (Jvm.Cond.declares ({ cls := "java/lang/Throwable", name := "<init>", desc := "()V" } : Jvm.MethodName)) ∈ lw_tbl := lw_at lw_m2 176 rfl
theorem q521 : (Jvm.Cond.declares ({ cls := "java/lang/Throwable", name := "<init>", desc := "(Ljava/lang/String;)V" } : Jvm.MethodName)) ∈ lw_tbl := lw_at lw_m2 177 rfl
theorem q525 : (Jvm.Cond.lays "java/lang/Throwable" "java/lang/Throwable" "cause" "Ljava/lang/Throwable;") ∈ lw_all := lw_g (lw_at lw_m2 181 rfl) rfl
theorem q527 : (Jvm.Cond.lays "java/lang/Throwable" "java/lang/Throwable" "stackTrace" "[Ljava/lang/StackTraceElement;") ∈ lw_all := lw_g (lw_at lw_m2 183 rfl) rfl
theorem q529 : (Jvm.Cond.lays "java/lang/Throwable" "java/lang/Throwable" "suppressedExceptions" "Ljava/util/List;") ∈ lw_all := lw_g (lw_at lw_m2 185 rfl) rfl
theorem q531 : (Jvm.Cond.lays "java/lang/Throwable" "java/lang/Throwable" "detailMessage" "Ljava/lang/String;") ∈ lw_all := lw_g (lw_at lw_m2 187 rfl) rfl
theorem q533 : (Jvm.Cond.lays "java/lang/Throwable" "java/lang/Throwable" "backtrace" "Ljava/lang/Object;") ∈ lw_all := lw_g (lw_at lw_m2 189 rfl) rfl
theorem q534 : (Jvm.Cond.fieldLink "java/lang/Throwable" (198 : Nat) "java/lang/Throwable" "backtrace" "Ljava/lang/Object;") ∈ lw_all := lw_g (lw_at lw_m2 190 rfl) rfl
theorem q535 : (Jvm.Cond.superclass "java/lang/Throwable" "java/lang/Object") ∈ lw_all := lw_g (lw_at lw_m2 191 rfl) rfl
theorem q536 : (Jvm.Cond.instanceMethod ({ cls := "java/lang/Throwable", name := "<init>", desc := "()V" } : Jvm.MethodName)) ∈ lw_all := lw_g (lw_at lw_m2 192 rfl) rfl
theorem q537 : (Jvm.Cond.code ({ cls := "java/lang/Throwable", name := "<init>", desc := "()V" } : Jvm.MethodName) prog_40_method_1_code (1 : Nat) (Option.none : Option Jvm.ClassFile.FieldType)) ∈ lw_all := lw_g (lw_at lw_m2 193 rfl) rfl
theorem q538 : (Jvm.Cond.methodLink "java/lang/Throwable" (1 : Nat) ({ cls := "java/lang/Object", name := "<init>", desc := "()V" } : Jvm.MethodName)) ∈ lw_all := lw_g (lw_at lw_m2 194 rfl) rfl
theorem q539 : (Jvm.Cond.fieldLink "java/lang/Throwable" (13 : Nat) "java/lang/Throwable" "UNASSIGNED_STACK" "[Ljava/lang/StackTraceElement;") ∈ lw_all := lw_g (lw_at lw_m2 195 rfl) rfl
theorem q540 : (Jvm.Cond.laysStatic "java/lang/Throwable" "UNASSIGNED_STACK" "[Ljava/lang/StackTraceElement;") ∈ lw_tbl := lw_at lw_m2 196 rfl
theorem q541 : (Jvm.Cond.fieldLink "java/lang/Throwable" (20 : Nat) "java/lang/Throwable" "SUPPRESSED_SENTINEL" "Ljava/util/List;") ∈ lw_all := lw_g (lw_at lw_m2 197 rfl) rfl
theorem q542 : (Jvm.Cond.laysStatic "java/lang/Throwable" "SUPPRESSED_SENTINEL" "Ljava/util/List;") ∈ lw_tbl := lw_at lw_m2 198 rfl
theorem q543 : (Jvm.Cond.methodLink "java/lang/Throwable" (27 : Nat) ({ cls := "java/lang/Throwable", name := "fillInStackTrace", desc := "()Ljava/lang/Throwable;" } : Jvm.MethodName)) ∈ lw_all := lw_g (lw_at lw_m2 199 rfl) rfl
theorem q544 : (Jvm.Cond.instanceMethod ({ cls := "java/lang/Throwable", name := "fillInStackTrace", desc := "()Ljava/lang/Throwable;" } : Jvm.MethodName)) ∈ lw_all := lw_g (lw_at lw_m2 200 rfl) rfl
theorem q545 : (Jvm.Cond.sameMethod "java/lang/Throwable" "java/lang/Throwable" "fillInStackTrace" "()Ljava/lang/Throwable;") ∈ lw_all := lw_g (lw_at lw_m2 201 rfl) rfl
theorem q549 : (Jvm.Cond.codeSync ({ cls := "java/lang/Throwable", name := "fillInStackTrace", desc := "()Ljava/lang/Throwable;" } : Jvm.MethodName) prog_40_method_18_code (1 : Nat) (Option.some (Jvm.ClassFile.FieldType.object "java/lang/Throwable"))) ∈ lw_all := lw_g (lw_at lw_m2 205 rfl) rfl
theorem q550 : (Jvm.Cond.methodLink "java/lang/Throwable" (202 : Nat) ({ cls := "java/lang/Throwable", name := "fillInStackTrace", desc := "(I)Ljava/lang/Throwable;" } : Jvm.MethodName)) ∈ lw_all := lw_g (lw_at lw_m2 206 rfl) rfl
theorem q551 : (Jvm.Cond.privateMethod ({ cls := "java/lang/Throwable", name := "fillInStackTrace", desc := "(I)Ljava/lang/Throwable;" } : Jvm.MethodName)) ∈ lw_tbl := lw_at lw_m2 207 rfl
theorem q552 : (Jvm.Cond.instanceMethod ({ cls := "java/lang/Throwable", name := "fillInStackTrace", desc := "(I)Ljava/lang/Throwable;" } : Jvm.MethodName)) ∈ lw_all := lw_g (lw_at lw_m2 208 rfl) rfl
theorem q553 : (Jvm.Cond.instantiable "java/lang/Throwable" (6 : Nat)) ∈ lw_all := lw_g (lw_at lw_m2 209 rfl) rfl
theorem q554 : (Jvm.Cond.native ({ cls := "java/lang/Throwable", name := "fillInStackTrace", desc := "(I)Ljava/lang/Throwable;" } : Jvm.MethodName)) ∈ lw_all := lw_g (lw_at lw_m2 210 rfl) rfl
theorem q562 : (Jvm.Cond.instanceMethod ({ cls := "java/lang/Throwable", name := "<init>", desc := "(Ljava/lang/String;Ljava/lang/Throwable;ZZ)V" } : Jvm.MethodName)) ∈ lw_all := lw_g (lw_at lw_m2 218 rfl) rfl
theorem q563 : (Jvm.Cond.code ({ cls := "java/lang/Throwable", name := "<init>", desc := "(Ljava/lang/String;Ljava/lang/Throwable;ZZ)V" } : Jvm.MethodName) prog_40_method_5_code (5 : Nat) (Option.none : Option Jvm.ClassFile.FieldType)) ∈ lw_all := lw_g (lw_at lw_m2 219 rfl) rfl
theorem q566 : (Jvm.Cond.fieldLink "java/lang/Throwable" (198 : Nat) "java/lang/Throwable" "backtrace" "Ljava/lang/Object;") ∈ lw_all := lw_g (lw_at lw_m2 222 rfl) rfl
theorem q567 : (Jvm.Cond.fieldLink "java/lang/Throwable" (31 : Nat) "java/lang/Throwable" "detailMessage" "Ljava/lang/String;") ∈ lw_all := lw_g (lw_at lw_m2 223 rfl) rfl
theorem q568 : (Jvm.Cond.fieldLink "java/lang/Throwable" (7 : Nat) "java/lang/Throwable" "cause" "Ljava/lang/Throwable;") ∈ lw_all := lw_g (lw_at lw_m2 224 rfl) rfl
theorem q569 : (Jvm.Cond.fieldLink "java/lang/Throwable" (17 : Nat) "java/lang/Throwable" "stackTrace" "[Ljava/lang/StackTraceElement;") ∈ lw_all := lw_g (lw_at lw_m2 225 rfl) rfl
theorem q570 : (Jvm.Cond.fieldLink "java/lang/Throwable" (24 : Nat) "java/lang/Throwable" "suppressedExceptions" "Ljava/util/List;") ∈ lw_all := lw_g (lw_at lw_m2 226 rfl) rfl
theorem q573 : (Jvm.Cond.soleField "java/lang/Throwable" "backtrace") ∈ lw_all := lw_g (lw_at lw_m2 229 rfl) rfl
theorem q574 : (Jvm.Cond.soleField "java/lang/Throwable" "detailMessage") ∈ lw_all := lw_g (lw_at lw_m2 230 rfl) rfl
theorem q575 : (Jvm.Cond.soleField "java/lang/Throwable" "cause") ∈ lw_all := lw_g (lw_at lw_m2 231 rfl) rfl
theorem q576 : (Jvm.Cond.soleField "java/lang/Throwable" "stackTrace") ∈ lw_all := lw_g (lw_at lw_m2 232 rfl) rfl
theorem q578 : (Jvm.Cond.soleField "java/lang/Throwable" "depth") ∈ lw_all := lw_g (lw_at lw_m2 234 rfl) rfl
theorem q579 : (Jvm.Cond.soleField "java/lang/Throwable" "suppressedExceptions") ∈ lw_all := lw_g (lw_at lw_m2 235 rfl) rfl
theorem q1173 : (Jvm.Cond.instanceMethod ({ cls := "java/lang/Throwable", name := "getCause", desc := "()Ljava/lang/Throwable;" } : Jvm.MethodName)) ∈ lw_all := lw_g (lw_at lw_m5 109 rfl) rfl
theorem q1174 : (Jvm.Cond.sameMethod "java/lang/Throwable" "java/lang/Throwable" "getCause" "()Ljava/lang/Throwable;") ∈ lw_all := lw_g (lw_at lw_m5 110 rfl) rfl
theorem q1179 : (Jvm.Cond.codeSync ({ cls := "java/lang/Throwable", name := "getCause", desc := "()Ljava/lang/Throwable;" } : Jvm.MethodName) prog_40_method_8_code (1 : Nat) (Option.some (Jvm.ClassFile.FieldType.object "java/lang/Throwable"))) ∈ lw_all := lw_g (lw_at lw_m5 115 rfl) rfl
theorem q1914 : (Jvm.Cond.sameMethod "java/lang/Throwable" "java/lang/Throwable" "fillInStackTrace" "(I)Ljava/lang/Throwable;") ∈ lw_all := lw_g (lw_at lw_m8 130 rfl) rfl
theorem q1947 : (Jvm.Cond.castable "java/lang/Throwable" "java/lang/Object") ∈ lw_tbl := lw_at lw_m8 163 rfl
theorem in_J9 : ∀ w ∈ wsJ90, w ∈ lw_all := lw_in wsJ90 [525, 527, 529, 531, 533] (by decide +kernel) (by decide +kernel)
/-! java/lang/Exception -/
def RJ10 : String := "java/lang/Exception"
abbrev cJ10_init : ByteArray := prog_29_method_5_code
def yJ10_init : MethodName := ⟨RJ10, "<init>", "(Ljava/lang/String;Ljava/lang/Throwable;ZZ)V"⟩
abbrev cJ10_init_2 : ByteArray := prog_29_method_1_code
def yJ10_init_2 : MethodName := ⟨RJ10, "<init>", "()V"⟩
theorem q125 : (Jvm.Cond.initialized "java/lang/Exception") ∈ lw_all := lw_g (lw_at lw_m1 21 rfl) rfl
theorem q518 : (Jvm.Cond.declares ({ cls := "java/lang/Exception", name := "<init>", desc := "()V" } : Jvm.MethodName)) ∈ lw_tbl := lw_at lw_m2 174 rfl
theorem q519 : (Jvm.Cond.declares ({ cls := "java/lang/Exception", name := "<init>", desc := "(Ljava/lang/String;)V" } : Jvm.MethodName)) ∈ lw_tbl := lw_at lw_m2 175 rfl
theorem q559 : (Jvm.Cond.instanceMethod ({ cls := "java/lang/Exception", name := "<init>", desc := "(Ljava/lang/String;Ljava/lang/Throwable;ZZ)V" } : Jvm.MethodName)) ∈ lw_all := lw_g (lw_at lw_m2 215 rfl) rfl
theorem q560 : (Jvm.Cond.code ({ cls := "java/lang/Exception", name := "<init>", desc := "(Ljava/lang/String;Ljava/lang/Throwable;ZZ)V" } : Jvm.MethodName) prog_29_method_5_code (5 : Nat) (Option.none : Option Jvm.ClassFile.FieldType)) ∈ lw_all := lw_g (lw_at lw_m2 216 rfl) rfl
theorem q561 : (Jvm.Cond.methodLink "java/lang/Exception" (16 : Nat) ({ cls := "java/lang/Throwable", name := "<init>", desc := "(Ljava/lang/String;Ljava/lang/Throwable;ZZ)V" } : Jvm.MethodName)) ∈ lw_all := lw_g (lw_at lw_m2 217 rfl) rfl
theorem q1248 : (Jvm.Cond.instanceMethod ({ cls := "java/lang/Exception", name := "<init>", desc := "()V" } : Jvm.MethodName)) ∈ lw_all := lw_g (lw_at lw_m5 184 rfl) rfl
theorem q1249 : (Jvm.Cond.code ({ cls := "java/lang/Exception", name := "<init>", desc := "()V" } : Jvm.MethodName) prog_29_method_1_code (1 : Nat) (Option.none : Option Jvm.ClassFile.FieldType)) ∈ lw_all := lw_g (lw_at lw_m5 185 rfl) rfl
theorem q1250 : (Jvm.Cond.methodLink "java/lang/Exception" (1 : Nat) ({ cls := "java/lang/Throwable", name := "<init>", desc := "()V" } : Jvm.MethodName)) ∈ lw_all := lw_g (lw_at lw_m5 186 rfl) rfl
/-! java/lang/RuntimeException -/
def RJ11 : String := "java/lang/RuntimeException"
abbrev cJ11_init : ByteArray := prog_34_method_1_code
def yJ11_init : MethodName := ⟨RJ11, "<init>", "()V"⟩
theorem q138 : (Jvm.Cond.initialized "java/lang/RuntimeException") ∈ lw_all := lw_g (lw_at lw_m1 34 rfl) rfl
theorem q1233 : (Jvm.Cond.declares ({ cls := "java/lang/RuntimeException", name := "<init>", desc := "()V" } : Jvm.MethodName)) ∈ lw_tbl := lw_at lw_m5 169 rfl
theorem q1234 : (Jvm.Cond.declares ({ cls := "java/lang/RuntimeException", name := "<init>", desc := "(Ljava/lang/String;)V" } : Jvm.MethodName)) ∈ lw_tbl := lw_at lw_m5 170 rfl
theorem q1245 : (Jvm.Cond.instanceMethod ({ cls := "java/lang/RuntimeException", name := "<init>", desc := "()V" } : Jvm.MethodName)) ∈ lw_all := lw_g (lw_at lw_m5 181 rfl) rfl
theorem q1246 : (Jvm.Cond.code ({ cls := "java/lang/RuntimeException", name := "<init>", desc := "()V" } : Jvm.MethodName) prog_34_method_1_code (1 : Nat) (Option.none : Option Jvm.ClassFile.FieldType)) ∈ lw_all := lw_g (lw_at lw_m5 182 rfl) rfl
theorem q1247 : (Jvm.Cond.methodLink "java/lang/RuntimeException" (1 : Nat) ({ cls := "java/lang/Exception", name := "<init>", desc := "()V" } : Jvm.MethodName)) ∈ lw_all := lw_g (lw_at lw_m5 183 rfl) rfl
/-! java/util/NoSuchElementException -/
def RJ12 : String := "java/util/NoSuchElementException"
def TJ12 : u_T := fun k => match k with
  | 0 => ("java/lang/Throwable", "cause", "Ljava/lang/Throwable;", false)
  | 1 => ("java/lang/Throwable", "stackTrace", "[Ljava/lang/StackTraceElement;", false)
  | 2 => ("java/lang/Throwable", "suppressedExceptions", "Ljava/util/List;", false)
  | 3 => ("java/lang/Throwable", "detailMessage", "Ljava/lang/String;", false)
  | 4 => ("java/lang/Throwable", "backtrace", "Ljava/lang/Object;", false)
  | _ => ("java/lang/Throwable", "depth", "I", false)
def tyJ12 : Nat → FieldType := fun k => match k with
  | 0 => .object "java/lang/Throwable"
  | 1 => .array (.object "java/lang/StackTraceElement")
  | 2 => .object "java/util/List"
  | 3 => .object "java/lang/String"
  | 4 => .object "java/lang/Object"
  | _ => .int
abbrev wsJ120 : List Cond := u_ws RJ12 TJ12 6
theorem nmJ12 : ∀ a, a < 6 → ∀ b, b < 6 → a ≠ b → (TJ12 a).2.1 ≠ (TJ12 b).2.1 := by decide +kernel
theorem tyJ12_ok : ∀ k, k < 6 → parseFieldDescriptor (TJ12 k).2.2.1 = some (tyJ12 k) := by decide +kernel
abbrev cJ12_init : ByteArray := prog_48_method_1_code
def yJ12_init : MethodName := ⟨RJ12, "<init>", "()V"⟩
theorem q139 : (Jvm.Cond.initialized "java/util/NoSuchElementException") ∈ lw_all := lw_g (lw_at lw_m1 35 rfl) rfl
theorem q548 : (Jvm.Cond.selects "java/util/NoSuchElementException" ({ cls := "java/lang/Throwable", name := "fillInStackTrace", desc := "()Ljava/lang/Throwable;" } : Jvm.MethodName) ({ cls := "java/lang/Throwable", name := "fillInStackTrace", desc := "()Ljava/lang/Throwable;" } : Jvm.MethodName)) ∈ lw_all := lw_g (lw_at lw_m2 204 rfl) rfl
theorem q1178 : (Jvm.Cond.selects "java/util/NoSuchElementException" ({ cls := "java/lang/Throwable", name := "getCause", desc := "()Ljava/lang/Throwable;" } : Jvm.MethodName) ({ cls := "java/lang/Throwable", name := "getCause", desc := "()Ljava/lang/Throwable;" } : Jvm.MethodName)) ∈ lw_all := lw_g (lw_at lw_m5 114 rfl) rfl
theorem q1231 : (Jvm.Cond.instantiable "java/util/NoSuchElementException" (6 : Nat)) ∈ lw_all := lw_g (lw_at lw_m5 167 rfl) rfl
theorem q1232 : (Jvm.Cond.castable "java/util/NoSuchElementException" "java/util/NoSuchElementException") ∈ lw_tbl := lw_at lw_m5 168 rfl
theorem q1235 : (Jvm.Cond.selects "java/util/NoSuchElementException" ({ cls := "java/lang/Throwable", name := "fillInStackTrace", desc := "(I)Ljava/lang/Throwable;" } : Jvm.MethodName) ({ cls := "java/lang/Throwable", name := "fillInStackTrace", desc := "(I)Ljava/lang/Throwable;" } : Jvm.MethodName)) ∈ lw_all := lw_g (lw_at lw_m5 171 rfl) rfl
theorem q1236 : (Jvm.Cond.lays "java/util/NoSuchElementException" "java/lang/Throwable" "cause" "Ljava/lang/Throwable;") ∈ lw_all := lw_g (lw_at lw_m5 172 rfl) rfl
theorem q1237 : (Jvm.Cond.lays "java/util/NoSuchElementException" "java/lang/Throwable" "stackTrace" "[Ljava/lang/StackTraceElement;") ∈ lw_all := lw_g (lw_at lw_m5 173 rfl) rfl
theorem q1238 : (Jvm.Cond.lays "java/util/NoSuchElementException" "java/lang/Throwable" "suppressedExceptions" "Ljava/util/List;") ∈ lw_all := lw_g (lw_at lw_m5 174 rfl) rfl
theorem q1239 : (Jvm.Cond.lays "java/util/NoSuchElementException" "java/lang/Throwable" "detailMessage" "Ljava/lang/String;") ∈ lw_all := lw_g (lw_at lw_m5 175 rfl) rfl
theorem q1240 : (Jvm.Cond.lays "java/util/NoSuchElementException" "java/lang/Throwable" "backtrace" "Ljava/lang/Object;") ∈ lw_all := lw_g (lw_at lw_m5 176 rfl) rfl
theorem q1242 : (Jvm.Cond.instanceMethod ({ cls := "java/util/NoSuchElementException", name := "<init>", desc := "()V" } : Jvm.MethodName)) ∈ lw_all := lw_g (lw_at lw_m5 178 rfl) rfl
theorem q1243 : (Jvm.Cond.code ({ cls := "java/util/NoSuchElementException", name := "<init>", desc := "()V" } : Jvm.MethodName) prog_48_method_1_code (1 : Nat) (Option.none : Option Jvm.ClassFile.FieldType)) ∈ lw_all := lw_g (lw_at lw_m5 179 rfl) rfl
theorem q1244 : (Jvm.Cond.methodLink "java/util/NoSuchElementException" (1 : Nat) ({ cls := "java/lang/RuntimeException", name := "<init>", desc := "()V" } : Jvm.MethodName)) ∈ lw_all := lw_g (lw_at lw_m5 180 rfl) rfl
theorem q1251 : (Jvm.Cond.lays "java/util/NoSuchElementException" "java/lang/Throwable" "depth" "I") ∈ lw_all := lw_g (lw_at lw_m5 187 rfl) rfl
theorem q1252 : (Jvm.Cond.superclass "java/util/NoSuchElementException" "java/lang/RuntimeException") ∈ lw_all := lw_g (lw_at lw_m5 188 rfl) rfl
theorem q1946 : (Jvm.Cond.castable "java/util/NoSuchElementException" "java/lang/Object") ∈ lw_tbl := lw_at lw_m8 162 rfl
theorem in_J12 : ∀ w ∈ wsJ120, w ∈ lw_all := lw_in wsJ120 [1236, 1237, 1238, 1239, 1240, 1251] (by decide +kernel) (by decide +kernel)
/-! java/lang/Integer -/
def RJ13 : String := "java/lang/Integer"
abbrev cJ13_stringSize : ByteArray := prog_30_method_13_code
def yJ13_stringSize : MethodName := ⟨RJ13, "stringSize", "(I)I"⟩
abbrev cJ13_getChars : ByteArray := prog_30_method_12_code
def yJ13_getChars : MethodName := ⟨RJ13, "getChars", "(II[B)I"⟩
theorem q141 : (Jvm.Cond.initialized "java/lang/Integer") ∈ lw_all := lw_g (lw_at lw_m1 37 rfl) rfl
theorem q1375 : (Jvm.Cond.static ({ cls := "java/lang/Integer", name := "stringSize", desc := "(I)I" } : Jvm.MethodName)) ∈ lw_all := lw_g (lw_at lw_m6 71 rfl) rfl
theorem q1376 : (Jvm.Cond.code ({ cls := "java/lang/Integer", name := "stringSize", desc := "(I)I" } : Jvm.MethodName) prog_30_method_13_code (4 : Nat) (Option.some Jvm.ClassFile.FieldType.int)) ∈ lw_all := lw_g (lw_at lw_m6 72 rfl) rfl
theorem q1378 : (Jvm.Cond.static ({ cls := "java/lang/Integer", name := "getChars", desc := "(II[B)I" } : Jvm.MethodName)) ∈ lw_all := lw_g (lw_at lw_m6 74 rfl) rfl
theorem q1379 : (Jvm.Cond.code ({ cls := "java/lang/Integer", name := "getChars", desc := "(II[B)I" } : Jvm.MethodName) prog_30_method_12_code (7 : Nat) (Option.some Jvm.ClassFile.FieldType.int)) ∈ lw_all := lw_g (lw_at lw_m6 75 rfl) rfl
theorem q1380 : (Jvm.Cond.fieldLink "java/lang/Integer" (83 : Nat) "java/lang/Integer" "DigitOnes" "[B") ∈ lw_all := lw_g (lw_at lw_m6 76 rfl) rfl
theorem q1381 : (Jvm.Cond.laysStatic "java/lang/Integer" "DigitOnes" "[B") ∈ lw_tbl := lw_at lw_m6 77 rfl
theorem q1382 : (Jvm.Cond.fieldLink "java/lang/Integer" (87 : Nat) "java/lang/Integer" "DigitTens" "[B") ∈ lw_all := lw_g (lw_at lw_m6 78 rfl) rfl
theorem q1383 : (Jvm.Cond.laysStatic "java/lang/Integer" "DigitTens" "[B") ∈ lw_tbl := lw_at lw_m6 79 rfl
/-! java/lang/Object -/
def RJ14 : String := "java/lang/Object"
abbrev cJ14_init : ByteArray := object_method_1_code
def yJ14_init : MethodName := ⟨RJ14, "<init>", "()V"⟩
theorem q148 : (Jvm.Cond.instanceMethod ({ cls := "java/lang/Object", name := "<init>", desc := "()V" } : Jvm.MethodName)) ∈ lw_all := lw_g (lw_at lw_m1 44 rfl) rfl
theorem q149 : (Jvm.Cond.code ({ cls := "java/lang/Object", name := "<init>", desc := "()V" } : Jvm.MethodName) object_method_1_code (1 : Nat) (Option.none : Option Jvm.ClassFile.FieldType)) ∈ lw_all := lw_g (lw_at lw_m1 45 rfl) rfl
theorem q834 : (Jvm.Cond.native ({ cls := "java/lang/Object", name := "clone", desc := "()Ljava/lang/Object;" } : Jvm.MethodName)) ∈ lw_all := lw_g (lw_at lw_m4 10 rfl) rfl
theorem q835 : (Jvm.Cond.instanceMethod ({ cls := "java/lang/Object", name := "clone", desc := "()Ljava/lang/Object;" } : Jvm.MethodName)) ∈ lw_all := lw_g (lw_at lw_m4 11 rfl) rfl
theorem q1924 : (Jvm.Cond.initialized "java/lang/Object") ∈ lw_all := lw_g (lw_at lw_m8 140 rfl) rfl
/-! the law's own entry -/
abbrev cL_law : ByteArray := code
/-! TitheBarn -/
def RX0 : String := "TitheBarn"
def TX0 : u_T := fun k => match k with
  | 0 => ("TitheBarn", "now", "LTitheBarn$State;", true)
  | 1 => ("TitheBarn", "before", "LTitheBarn$State;", true)
  | 2 => ("TitheBarn", "tried", "LTitheBarn$State;", true)
  | 3 => ("TitheBarn", "saved", "LTitheBarn$State;", true)
  | 4 => ("TitheBarn", "isSaved", "Z", false)
  | 5 => ("TitheBarn", "past", "[LTitheBarn$State;", true)
  | 6 => ("TitheBarn", "pastMany", "I", false)
  | 7 => ("TitheBarn", "refused", "LTitheBarn$Refused;", false)
  | 8 => ("TitheBarn", "faultAt", "I", false)
  | 9 => ("TitheBarn", "input", "Ljava/lang/StringBuilder;", true)
  | 10 => ("TitheBarn", "line", "Ljava/lang/StringBuilder;", true)
  | 11 => ("TitheBarn", "commands", "[LTitheBarn$Command;", true)
  | 12 => ("TitheBarn", "commandMany", "I", false)
  | _ => ("TitheBarn", "readAt", "I", false)
def tyX0 : Nat → FieldType := fun k => match k with
  | 0 => .object "TitheBarn$State"
  | 1 => .object "TitheBarn$State"
  | 2 => .object "TitheBarn$State"
  | 3 => .object "TitheBarn$State"
  | 4 => .boolean
  | 5 => .array (.object "TitheBarn$State")
  | 6 => .int
  | 7 => .object "TitheBarn$Refused"
  | 8 => .int
  | 9 => .object "java/lang/StringBuilder"
  | 10 => .object "java/lang/StringBuilder"
  | 11 => .array (.object "TitheBarn$Command")
  | 12 => .int
  | _ => .int
abbrev wsX00 : List Cond := u_ws RX0 TX0 14
theorem nmX0 : ∀ a, a < 14 → ∀ b, b < 14 → a ≠ b → (TX0 a).2.1 ≠ (TX0 b).2.1 := by decide +kernel
theorem tyX0_ok : ∀ k, k < 14 → parseFieldDescriptor (TX0 k).2.2.1 = some (tyX0 k) := by decide +kernel
abbrev cX0_init : ByteArray := prog_1_method_8_code
def yX0_init : MethodName := ⟨RX0, "<init>", "()V"⟩
abbrev cX0_clear : ByteArray := prog_1_method_17_code
def yX0_clear : MethodName := ⟨RX0, "clear", "()I"⟩
abbrev cX0_parish : ByteArray := prog_1_method_19_code
def yX0_parish : MethodName := ⟨RX0, "parish", "(I)I"⟩
abbrev cX0_begins : ByteArray := prog_1_method_9_code
def yX0_begins : MethodName := ⟨RX0, "begins", "()V"⟩
abbrev cX0_doParish : ByteArray := prog_1_method_18_code
def yX0_doParish : MethodName := ⟨RX0, "doParish", "(I)I"⟩
abbrev cX0_isKind : ByteArray := prog_1_method_15_code
def yX0_isKind : MethodName := ⟨RX0, "isKind", "(I)Z"⟩
abbrev cX0_within : ByteArray := prog_1_method_1_code
def yX0_within : MethodName := ⟨RX0, "within", "(III)Z"⟩
abbrev cX0_want : ByteArray := prog_1_method_6_code
def yX0_want : MethodName := ⟨RX0, "want", "(ZI)V"⟩
abbrev cX0_allow : ByteArray := prog_1_method_7_code
def yX0_allow : MethodName := ⟨RX0, "allow", "(ZII)V"⟩
abbrev cX0_changed : ByteArray := prog_1_method_10_code
def yX0_changed : MethodName := ⟨RX0, "changed", "(I)I"⟩
abbrev cX0_notDone : ByteArray := prog_1_method_11_code
def yX0_notDone : MethodName := ⟨RX0, "notDone", "(Ljava/lang/Exception;)I"⟩
abbrev cX0_harvest : ByteArray := prog_1_method_21_code
def yX0_harvest : MethodName := ⟨RX0, "harvest", "(II)I"⟩
abbrev cX0_doHarvest : ByteArray := prog_1_method_20_code
def yX0_doHarvest : MethodName := ⟨RX0, "doHarvest", "(II)I"⟩
abbrev cX0_isParish : ByteArray := prog_1_method_12_code
def yX0_isParish : MethodName := ⟨RX0, "isParish", "(I)Z"⟩
abbrev cX0_cart : ByteArray := prog_1_method_23_code
def yX0_cart : MethodName := ⟨RX0, "cart", "(III)I"⟩
abbrev cX0_doCart : ByteArray := prog_1_method_22_code
def yX0_doCart : MethodName := ⟨RX0, "doCart", "(III)I"⟩
abbrev cX0_isBay : ByteArray := prog_1_method_13_code
def yX0_isBay : MethodName := ⟨RX0, "isBay", "(I)Z"⟩
abbrev cX0_all : ByteArray := prog_1_method_2_code
def yX0_all : MethodName := ⟨RX0, "all", "([Z)Z"⟩
abbrev cX0_thresh : ByteArray := prog_1_method_27_code
def yX0_thresh : MethodName := ⟨RX0, "thresh", "(III)I"⟩
abbrev cX0_doThresh : ByteArray := prog_1_method_26_code
def yX0_doThresh : MethodName := ⟨RX0, "doThresh", "(III)I"⟩
abbrev cX0_isFloor : ByteArray := prog_1_method_14_code
def yX0_isFloor : MethodName := ⟨RX0, "isFloor", "(I)Z"⟩
abbrev cX0_otherKind : ByteArray := prog_1_method_25_code
def yX0_otherKind : MethodName := ⟨RX0, "otherKind", "(LTitheBarn$Bay;I)I"⟩
abbrev cX0_kindOfLot : ByteArray := prog_1_method_24_code
def yX0_kindOfLot : MethodName := ⟨RX0, "kindOfLot", "(LTitheBarn$Lot;)I"⟩
abbrev cX0_flails : ByteArray := prog_1_method_29_code
def yX0_flails : MethodName := ⟨RX0, "flails", "(II)I"⟩
abbrev cX0_doFlails : ByteArray := prog_1_method_28_code
def yX0_doFlails : MethodName := ⟨RX0, "doFlails", "(II)I"⟩
abbrev cX0_price : ByteArray := prog_1_method_31_code
def yX0_price : MethodName := ⟨RX0, "price", "(II)I"⟩
abbrev cX0_doPrice : ByteArray := prog_1_method_30_code
def yX0_doPrice : MethodName := ⟨RX0, "doPrice", "(II)I"⟩
abbrev cX0_sell : ByteArray := prog_1_method_33_code
def yX0_sell : MethodName := ⟨RX0, "sell", "(III)I"⟩
abbrev cX0_doSell : ByteArray := prog_1_method_32_code
def yX0_doSell : MethodName := ⟨RX0, "doSell", "(III)I"⟩
abbrev cX0_settle : ByteArray := prog_1_method_35_code
def yX0_settle : MethodName := ⟨RX0, "settle", "(II)I"⟩
abbrev cX0_doSettle : ByteArray := prog_1_method_34_code
def yX0_doSettle : MethodName := ⟨RX0, "doSettle", "(II)I"⟩
abbrev cX0_stop : ByteArray := prog_1_method_37_code
def yX0_stop : MethodName := ⟨RX0, "stop", "(I)I"⟩
abbrev cX0_doStop : ByteArray := prog_1_method_36_code
def yX0_doStop : MethodName := ⟨RX0, "doStop", "(I)I"⟩
abbrev cX0_isPlace : ByteArray := prog_1_method_16_code
def yX0_isPlace : MethodName := ⟨RX0, "isPlace", "(I)Z"⟩
abbrev cX0_cat : ByteArray := prog_1_method_39_code
def yX0_cat : MethodName := ⟨RX0, "cat", "(I)I"⟩
abbrev cX0_doCat : ByteArray := prog_1_method_38_code
def yX0_doCat : MethodName := ⟨RX0, "doCat", "(I)I"⟩
abbrev cX0_pass : ByteArray := prog_1_method_41_code
def yX0_pass : MethodName := ⟨RX0, "pass", "(I)I"⟩
abbrev cX0_doPass : ByteArray := prog_1_method_40_code
def yX0_doPass : MethodName := ⟨RX0, "doPass", "(I)I"⟩
abbrev cX0_pintsOf : ByteArray := prog_1_method_3_code
def yX0_pintsOf : MethodName := ⟨RX0, "pintsOf", "(I)I"⟩
abbrev cX0_half : ByteArray := prog_1_method_5_code
def yX0_half : MethodName := ⟨RX0, "half", "(I)I"⟩
abbrev cX0_append : ByteArray := prog_1_method_42_code
def yX0_append : MethodName := ⟨RX0, "append", "(C)I"⟩
abbrev cX0_fault : ByteArray := prog_1_method_43_code
def yX0_fault : MethodName := ⟨RX0, "fault", "()I"⟩
abbrev cX0_script : ByteArray := prog_1_method_55_code
def yX0_script : MethodName := ⟨RX0, "script", "()I"⟩
abbrev cX0_readsScript : ByteArray := prog_1_method_53_code
def yX0_readsScript : MethodName := ⟨RX0, "readsScript", "()Z"⟩
abbrev cX0_command : ByteArray := prog_1_method_51_code
def yX0_command : MethodName := ⟨RX0, "command", "()LTitheBarn$Command;"⟩
abbrev cX0_takesIf : ByteArray := prog_1_method_45_code
def yX0_takesIf : MethodName := ⟨RX0, "takesIf", "(C)Z"⟩
abbrev cX0_isHere : ByteArray := prog_1_method_44_code
def yX0_isHere : MethodName := ⟨RX0, "isHere", "(CC)Z"⟩
abbrev cX0_digit : ByteArray := prog_1_method_46_code
def yX0_digit : MethodName := ⟨RX0, "digit", "()I"⟩
abbrev cX0_numberBehind : ByteArray := prog_1_method_49_code
def yX0_numberBehind : MethodName := ⟨RX0, "numberBehind", "(C)I"⟩
abbrev cX0_number : ByteArray := prog_1_method_48_code
def yX0_number : MethodName := ⟨RX0, "number", "()I"⟩
abbrev cX0_digitBehind : ByteArray := prog_1_method_47_code
def yX0_digitBehind : MethodName := ⟨RX0, "digitBehind", "(C)I"⟩
abbrev cX0_kindSign : ByteArray := prog_1_method_50_code
def yX0_kindSign : MethodName := ⟨RX0, "kindSign", "()I"⟩
abbrev cX0_signOf : ByteArray := prog_1_method_4_code
def yX0_signOf : MethodName := ⟨RX0, "signOf", "(I)C"⟩
abbrev cX0_shortCommand : ByteArray := prog_1_method_52_code
def yX0_shortCommand : MethodName := ⟨RX0, "shortCommand", "()LTitheBarn$Command;"⟩
abbrev cX0_doScript : ByteArray := prog_1_method_54_code
def yX0_doScript : MethodName := ⟨RX0, "doScript", "()I"⟩
abbrev cX0_reason : ByteArray := prog_1_method_56_code
def yX0_reason : MethodName := ⟨RX0, "reason", "(II)I"⟩
abbrev cX0_parishOf : ByteArray := prog_1_method_58_code
def yX0_parishOf : MethodName := ⟨RX0, "parishOf", "(II)I"⟩
abbrev cX0_inBays : ByteArray := prog_1_method_57_code
def yX0_inBays : MethodName := ⟨RX0, "inBays", "(I)I"⟩
abbrev cX0_rankOf : ByteArray := prog_1_method_70_code
def yX0_rankOf : MethodName := ⟨RX0, "rankOf", "(I)I"⟩
abbrev cX0_isAhead : ByteArray := prog_1_method_69_code
def yX0_isAhead : MethodName := ⟨RX0, "isAhead", "(II)Z"⟩
abbrev cX0_bayOf : ByteArray := prog_1_method_59_code
def yX0_bayOf : MethodName := ⟨RX0, "bayOf", "(II)I"⟩
abbrev cX0_lotOf : ByteArray := prog_1_method_60_code
def yX0_lotOf : MethodName := ⟨RX0, "lotOf", "(III)I"⟩
abbrev cX0_floorOf : ByteArray := prog_1_method_61_code
def yX0_floorOf : MethodName := ⟨RX0, "floorOf", "(II)I"⟩
abbrev cX0_binOf : ByteArray := prog_1_method_62_code
def yX0_binOf : MethodName := ⟨RX0, "binOf", "(II)I"⟩
abbrev cX0_placeOf : ByteArray := prog_1_method_63_code
def yX0_placeOf : MethodName := ⟨RX0, "placeOf", "(II)I"⟩
abbrev cX0_tithe : ByteArray := prog_1_method_64_code
def yX0_tithe : MethodName := ⟨RX0, "tithe", "(II)I"⟩
abbrev cX0_titheAgain : ByteArray := prog_1_method_65_code
def yX0_titheAgain : MethodName := ⟨RX0, "titheAgain", "(II)I"⟩
abbrev cX0_lasts : ByteArray := prog_1_method_66_code
def yX0_lasts : MethodName := ⟨RX0, "lasts", "(I)I"⟩
abbrev cX0_bestCat : ByteArray := prog_1_method_68_code
def yX0_bestCat : MethodName := ⟨RX0, "bestCat", "(I)I"⟩
abbrev cX0_eatenBy : ByteArray := prog_1_method_67_code
def yX0_eatenBy : MethodName := ⟨RX0, "eatenBy", "(I)I"⟩
abbrev cX0_ranked : ByteArray := prog_1_method_71_code
def yX0_ranked : MethodName := ⟨RX0, "ranked", "(I)I"⟩
abbrev cX0_grain : ByteArray := prog_1_method_78_code
def yX0_grain : MethodName := ⟨RX0, "grain", "(I)I"⟩
abbrev cX0_cartedPints : ByteArray := prog_1_method_77_code
def yX0_cartedPints : MethodName := ⟨RX0, "cartedPints", "()I"⟩
abbrev cX0_inAllBays : ByteArray := prog_1_method_73_code
def yX0_inAllBays : MethodName := ⟨RX0, "inAllBays", "()I"⟩
abbrev cX0_onFloors : ByteArray := prog_1_method_72_code
def yX0_onFloors : MethodName := ⟨RX0, "onFloors", "()I"⟩
abbrev cX0_overBins : ByteArray := prog_1_method_74_code
def yX0_overBins : MethodName := ⟨RX0, "overBins", "(I)I"⟩
abbrev cX0_grainAgain : ByteArray := prog_1_method_79_code
def yX0_grainAgain : MethodName := ⟨RX0, "grainAgain", "()I"⟩
abbrev cX0_share : ByteArray := prog_1_method_80_code
def yX0_share : MethodName := ⟨RX0, "share", "(I)F"⟩
abbrev cX0_overParishes : ByteArray := prog_1_method_75_code
def yX0_overParishes : MethodName := ⟨RX0, "overParishes", "(I)I"⟩
abbrev cX0_meanRats : ByteArray := prog_1_method_81_code
def yX0_meanRats : MethodName := ⟨RX0, "meanRats", "()D"⟩
abbrev cX0_overPlaces : ByteArray := prog_1_method_76_code
def yX0_overPlaces : MethodName := ⟨RX0, "overPlaces", "(I)I"⟩
abbrev cX0_describe : ByteArray := prog_1_method_82_code
def yX0_describe : MethodName := ⟨RX0, "describe", "(I)I"⟩
abbrev cX0_written : ByteArray := prog_1_method_83_code
def yX0_written : MethodName := ⟨RX0, "written", "(I)I"⟩
abbrev cX0_account : ByteArray := prog_1_method_84_code
def yX0_account : MethodName := ⟨RX0, "account", "(I)I"⟩
abbrev cX0_undo : ByteArray := prog_1_method_85_code
def yX0_undo : MethodName := ⟨RX0, "undo", "()I"⟩
abbrev cX0_save : ByteArray := prog_1_method_86_code
def yX0_save : MethodName := ⟨RX0, "save", "()I"⟩
abbrev cX0_restore : ByteArray := prog_1_method_87_code
def yX0_restore : MethodName := ⟨RX0, "restore", "()I"⟩
theorem q105 : (Jvm.Cond.initialized "TitheBarn") ∈ lw_all := lw_g (lw_at lw_m1 1 rfl) rfl
theorem q143 : (Jvm.Cond.instantiable "TitheBarn" (14 : Nat)) ∈ lw_all := lw_g (lw_at lw_m1 39 rfl) rfl
theorem q145 : (Jvm.Cond.instanceMethod ({ cls := "TitheBarn", name := "<init>", desc := "()V" } : Jvm.MethodName)) ∈ lw_all := lw_g (lw_at lw_m1 41 rfl) rfl
theorem q146 : (Jvm.Cond.code ({ cls := "TitheBarn", name := "<init>", desc := "()V" } : Jvm.MethodName) prog_1_method_8_code (2 : Nat) (Option.none : Option Jvm.ClassFile.FieldType)) ∈ lw_all := lw_g (lw_at lw_m1 42 rfl) rfl
theorem q147 : (Jvm.Cond.methodLink "TitheBarn" (14 : Nat) ({ cls := "java/lang/Object", name := "<init>", desc := "()V" } : Jvm.MethodName)) ∈ lw_all := lw_g (lw_at lw_m1 43 rfl) rfl
theorem q150 : (Jvm.Cond.classLink "TitheBarn" (19 : Nat) "TitheBarn$State") ∈ lw_all := lw_g (lw_at lw_m1 46 rfl) rfl
theorem q152 : (Jvm.Cond.methodLinkNest "TitheBarn" (21 : Nat) ({ cls := "TitheBarn$State", name := "<init>", desc := "()V" } : Jvm.MethodName) "TitheBarn") ∈ lw_tbl := lw_at lw_m1 48 rfl
theorem q173 : (Jvm.Cond.fieldLinkNest "TitheBarn" (184 : Nat) "TitheBarn$Parish" "kind" "I" "TitheBarn") ∈ lw_tbl := lw_at lw_m1 69 rfl
theorem q175 : (Jvm.Cond.fieldLinkNest "TitheBarn" (130 : Nat) "TitheBarn$Parish" "counted" "I" "TitheBarn") ∈ lw_tbl := lw_at lw_m1 71 rfl
theorem q177 : (Jvm.Cond.fieldLinkNest "TitheBarn" (408 : Nat) "TitheBarn$Parish" "carted" "I" "TitheBarn") ∈ lw_tbl := lw_at lw_m1 73 rfl
theorem q179 : (Jvm.Cond.fieldLinkNest "TitheBarn" (158 : Nat) "TitheBarn$Parish" "arrears" "I" "TitheBarn") ∈ lw_tbl := lw_at lw_m1 75 rfl
theorem q181 : (Jvm.Cond.fieldLinkNest "TitheBarn" (404 : Nat) "TitheBarn$Parish" "days" "[I" "TitheBarn") ∈ lw_tbl := lw_at lw_m1 77 rfl
theorem q184 : (Jvm.Cond.fieldLinkNest "TitheBarn" (403 : Nat) "TitheBarn$Parish" "many" "I" "TitheBarn") ∈ lw_tbl := lw_at lw_m1 80 rfl
theorem q219 : (Jvm.Cond.fieldLinkNest "TitheBarn" (179 : Nat) "TitheBarn$Lot" "parish" "I" "TitheBarn") ∈ lw_tbl := lw_at lw_m1 115 rfl
theorem q223 : (Jvm.Cond.fieldLinkNest "TitheBarn" (198 : Nat) "TitheBarn$Lot" "sheaves" "I" "TitheBarn") ∈ lw_tbl := lw_at lw_m1 119 rfl
theorem q231 : (Jvm.Cond.fieldLinkNest "TitheBarn" (187 : Nat) "TitheBarn$Bay" "lots" "[LTitheBarn$Lot;" "TitheBarn") ∈ lw_tbl := lw_at lw_m1 127 rfl
theorem q234 : (Jvm.Cond.fieldLinkNest "TitheBarn" (191 : Nat) "TitheBarn$Bay" "many" "I" "TitheBarn") ∈ lw_tbl := lw_at lw_m1 130 rfl
theorem q237 : (Jvm.Cond.fieldLinkNest "TitheBarn" (164 : Nat) "TitheBarn$Bay" "sheaves" "I" "TitheBarn") ∈ lw_tbl := lw_at lw_m1 133 rfl
theorem q252 : (Jvm.Cond.fieldLinkNest "TitheBarn" (213 : Nat) "TitheBarn$Floor" "kind" "I" "TitheBarn") ∈ lw_tbl := lw_at lw_m1 148 rfl
theorem q255 : (Jvm.Cond.fieldLinkNest "TitheBarn" (210 : Nat) "TitheBarn$Floor" "sheaves" "I" "TitheBarn") ∈ lw_tbl := lw_at lw_m1 151 rfl
theorem q258 : (Jvm.Cond.fieldLinkNest "TitheBarn" (220 : Nat) "TitheBarn$Floor" "flails" "I" "TitheBarn") ∈ lw_tbl := lw_at lw_m1 154 rfl
theorem q261 : (Jvm.Cond.fieldLinkNest "TitheBarn" (421 : Nat) "TitheBarn$Floor" "threshed" "I" "TitheBarn") ∈ lw_tbl := lw_at lw_m1 157 rfl
theorem q278 : (Jvm.Cond.fieldLinkNest "TitheBarn" (238 : Nat) "TitheBarn$Bin" "pints" "I" "TitheBarn") ∈ lw_tbl := lw_at lw_m1 174 rfl
theorem q280 : (Jvm.Cond.fieldLinkNest "TitheBarn" (230 : Nat) "TitheBarn$Bin" "price" "I" "TitheBarn") ∈ lw_tbl := lw_at lw_m1 176 rfl
theorem q282 : (Jvm.Cond.fieldLinkNest "TitheBarn" (253 : Nat) "TitheBarn$Bin" "bushels" "I" "TitheBarn") ∈ lw_tbl := lw_at lw_m1 178 rfl
theorem q284 : (Jvm.Cond.fieldLinkNest "TitheBarn" (250 : Nat) "TitheBarn$Bin" "sold" "I" "TitheBarn") ∈ lw_tbl := lw_at lw_m1 180 rfl
theorem q287 : (Jvm.Cond.fieldLinkNest "TitheBarn" (424 : Nat) "TitheBarn$Bin" "came" "I" "TitheBarn") ∈ lw_tbl := lw_at lw_m1 183 rfl
theorem q305 : (Jvm.Cond.fieldLinkNest "TitheBarn" (268 : Nat) "TitheBarn$Place" "gaps" "I" "TitheBarn") ∈ lw_tbl := lw_at lw_m1 201 rfl
theorem q308 : (Jvm.Cond.fieldLinkNest "TitheBarn" (245 : Nat) "TitheBarn$Place" "rats" "I" "TitheBarn") ∈ lw_tbl := lw_at lw_m1 204 rfl
theorem q311 : (Jvm.Cond.fieldLinkNest "TitheBarn" (427 : Nat) "TitheBarn$Place" "eaten" "I" "TitheBarn") ∈ lw_tbl := lw_at lw_m1 207 rfl
theorem q320 : (Jvm.Cond.fieldLinkNest "TitheBarn" (101 : Nat) "TitheBarn$State" "parishes" "[LTitheBarn$Parish;" "TitheBarn") ∈ lw_tbl := lw_at lw_m1 216 rfl
theorem q322 : (Jvm.Cond.fieldLinkNest "TitheBarn" (79 : Nat) "TitheBarn$State" "parishMany" "I" "TitheBarn") ∈ lw_tbl := lw_at lw_m1 218 rfl
theorem q324 : (Jvm.Cond.fieldLinkNest "TitheBarn" (150 : Nat) "TitheBarn$State" "bays" "[LTitheBarn$Bay;" "TitheBarn") ∈ lw_tbl := lw_at lw_m1 220 rfl
theorem q326 : (Jvm.Cond.fieldLinkNest "TitheBarn" (202 : Nat) "TitheBarn$State" "floors" "[LTitheBarn$Floor;" "TitheBarn") ∈ lw_tbl := lw_at lw_m1 222 rfl
theorem q328 : (Jvm.Cond.fieldLinkNest "TitheBarn" (226 : Nat) "TitheBarn$State" "bins" "[LTitheBarn$Bin;" "TitheBarn") ∈ lw_tbl := lw_at lw_m1 224 rfl
theorem q330 : (Jvm.Cond.fieldLinkNest "TitheBarn" (241 : Nat) "TitheBarn$State" "places" "[LTitheBarn$Place;" "TitheBarn") ∈ lw_tbl := lw_at lw_m1 226 rfl
theorem q332 : (Jvm.Cond.fieldLinkNest "TitheBarn" (274 : Nat) "TitheBarn$State" "cat" "I" "TitheBarn") ∈ lw_tbl := lw_at lw_m1 228 rfl
theorem q334 : (Jvm.Cond.fieldLinkNest "TitheBarn" (133 : Nat) "TitheBarn$State" "day" "I" "TitheBarn") ∈ lw_tbl := lw_at lw_m1 230 rfl
theorem q336 : (Jvm.Cond.fieldLinkNest "TitheBarn" (256 : Nat) "TitheBarn$State" "coins" "I" "TitheBarn") ∈ lw_tbl := lw_at lw_m1 232 rfl
theorem q338 : (Jvm.Cond.fieldLinkNest "TitheBarn" (430 : Nat) "TitheBarn$State" "eatenPints" "I" "TitheBarn") ∈ lw_tbl := lw_at lw_m1 234 rfl
theorem q361 : (Jvm.Cond.classLink "TitheBarn" (43 : Nat) "java/lang/StringBuilder") ∈ lw_all := lw_g (lw_at lw_m2 17 rfl) rfl
theorem q363 : (Jvm.Cond.methodLink "TitheBarn" (45 : Nat) ({ cls := "java/lang/StringBuilder", name := "<init>", desc := "(I)V" } : Jvm.MethodName)) ∈ lw_all := lw_g (lw_at lw_m2 19 rfl) rfl
theorem q393 : (Jvm.Cond.classLink "TitheBarn" (53 : Nat) "TitheBarn$Command") ∈ lw_all := lw_g (lw_at lw_m2 49 rfl) rfl
theorem q395 : (Jvm.Cond.fieldLink "TitheBarn" (22 : Nat) "TitheBarn" "now" "LTitheBarn$State;") ∈ lw_all := lw_g (lw_at lw_m2 51 rfl) rfl
theorem q396 : (Jvm.Cond.fieldLink "TitheBarn" (26 : Nat) "TitheBarn" "before" "LTitheBarn$State;") ∈ lw_all := lw_g (lw_at lw_m2 52 rfl) rfl
theorem q397 : (Jvm.Cond.fieldLink "TitheBarn" (29 : Nat) "TitheBarn" "tried" "LTitheBarn$State;") ∈ lw_all := lw_g (lw_at lw_m2 53 rfl) rfl
theorem q398 : (Jvm.Cond.fieldLink "TitheBarn" (32 : Nat) "TitheBarn" "saved" "LTitheBarn$State;") ∈ lw_all := lw_g (lw_at lw_m2 54 rfl) rfl
theorem q399 : (Jvm.Cond.fieldLink "TitheBarn" (483 : Nat) "TitheBarn" "isSaved" "Z") ∈ lw_all := lw_g (lw_at lw_m2 55 rfl) rfl
theorem q400 : (Jvm.Cond.fieldLink "TitheBarn" (35 : Nat) "TitheBarn" "past" "[LTitheBarn$State;") ∈ lw_all := lw_g (lw_at lw_m2 56 rfl) rfl
theorem q401 : (Jvm.Cond.fieldLink "TitheBarn" (63 : Nat) "TitheBarn" "pastMany" "I") ∈ lw_all := lw_g (lw_at lw_m2 57 rfl) rfl
theorem q402 : (Jvm.Cond.fieldLink "TitheBarn" (75 : Nat) "TitheBarn" "refused" "LTitheBarn$Refused;") ∈ lw_all := lw_g (lw_at lw_m2 58 rfl) rfl
theorem q403 : (Jvm.Cond.fieldLink "TitheBarn" (39 : Nat) "TitheBarn" "faultAt" "I") ∈ lw_all := lw_g (lw_at lw_m2 59 rfl) rfl
theorem q404 : (Jvm.Cond.fieldLink "TitheBarn" (46 : Nat) "TitheBarn" "input" "Ljava/lang/StringBuilder;") ∈ lw_all := lw_g (lw_at lw_m2 60 rfl) rfl
theorem q405 : (Jvm.Cond.fieldLink "TitheBarn" (50 : Nat) "TitheBarn" "line" "Ljava/lang/StringBuilder;") ∈ lw_all := lw_g (lw_at lw_m2 61 rfl) rfl
theorem q406 : (Jvm.Cond.fieldLink "TitheBarn" (55 : Nat) "TitheBarn" "commands" "[LTitheBarn$Command;") ∈ lw_all := lw_g (lw_at lw_m2 62 rfl) rfl
theorem q407 : (Jvm.Cond.fieldLink "TitheBarn" (361 : Nat) "TitheBarn" "commandMany" "I") ∈ lw_all := lw_g (lw_at lw_m2 63 rfl) rfl
theorem q408 : (Jvm.Cond.fieldLink "TitheBarn" (293 : Nat) "TitheBarn" "readAt" "I") ∈ lw_all := lw_g (lw_at lw_m2 64 rfl) rfl
theorem q409 : (Jvm.Cond.laysFinal "TitheBarn" "TitheBarn" "now" "LTitheBarn$State;") ∈ lw_all := lw_g (lw_at lw_m2 65 rfl) rfl
theorem q410 : (Jvm.Cond.soleField "TitheBarn" "now") ∈ lw_all := lw_g (lw_at lw_m2 66 rfl) rfl
theorem q411 : (Jvm.Cond.laysFinal "TitheBarn" "TitheBarn" "before" "LTitheBarn$State;") ∈ lw_all := lw_g (lw_at lw_m2 67 rfl) rfl
theorem q412 : (Jvm.Cond.soleField "TitheBarn" "before") ∈ lw_all := lw_g (lw_at lw_m2 68 rfl) rfl
theorem q413 : (Jvm.Cond.laysFinal "TitheBarn" "TitheBarn" "tried" "LTitheBarn$State;") ∈ lw_all := lw_g (lw_at lw_m2 69 rfl) rfl
theorem q414 : (Jvm.Cond.soleField "TitheBarn" "tried") ∈ lw_all := lw_g (lw_at lw_m2 70 rfl) rfl
theorem q415 : (Jvm.Cond.laysFinal "TitheBarn" "TitheBarn" "saved" "LTitheBarn$State;") ∈ lw_all := lw_g (lw_at lw_m2 71 rfl) rfl
theorem q416 : (Jvm.Cond.soleField "TitheBarn" "saved") ∈ lw_all := lw_g (lw_at lw_m2 72 rfl) rfl
theorem q417 : (Jvm.Cond.lays "TitheBarn" "TitheBarn" "isSaved" "Z") ∈ lw_all := lw_g (lw_at lw_m2 73 rfl) rfl
theorem q418 : (Jvm.Cond.soleField "TitheBarn" "isSaved") ∈ lw_all := lw_g (lw_at lw_m2 74 rfl) rfl
theorem q419 : (Jvm.Cond.laysFinal "TitheBarn" "TitheBarn" "past" "[LTitheBarn$State;") ∈ lw_all := lw_g (lw_at lw_m2 75 rfl) rfl
theorem q420 : (Jvm.Cond.soleField "TitheBarn" "past") ∈ lw_all := lw_g (lw_at lw_m2 76 rfl) rfl
theorem q421 : (Jvm.Cond.lays "TitheBarn" "TitheBarn" "pastMany" "I") ∈ lw_all := lw_g (lw_at lw_m2 77 rfl) rfl
theorem q422 : (Jvm.Cond.soleField "TitheBarn" "pastMany") ∈ lw_all := lw_g (lw_at lw_m2 78 rfl) rfl
theorem q423 : (Jvm.Cond.lays "TitheBarn" "TitheBarn" "refused" "LTitheBarn$Refused;") ∈ lw_all := lw_g (lw_at lw_m2 79 rfl) rfl
theorem q424 : (Jvm.Cond.soleField "TitheBarn" "refused") ∈ lw_all := lw_g (lw_at lw_m2 80 rfl) rfl
theorem q425 : (Jvm.Cond.lays "TitheBarn" "TitheBarn" "faultAt" "I") ∈ lw_all := lw_g (lw_at lw_m2 81 rfl) rfl
theorem q426 : (Jvm.Cond.soleField "TitheBarn" "faultAt") ∈ lw_all := lw_g (lw_at lw_m2 82 rfl) rfl
theorem q427 : (Jvm.Cond.laysFinal "TitheBarn" "TitheBarn" "input" "Ljava/lang/StringBuilder;") ∈ lw_all := lw_g (lw_at lw_m2 83 rfl) rfl
theorem q428 : (Jvm.Cond.soleField "TitheBarn" "input") ∈ lw_all := lw_g (lw_at lw_m2 84 rfl) rfl
theorem q429 : (Jvm.Cond.laysFinal "TitheBarn" "TitheBarn" "line" "Ljava/lang/StringBuilder;") ∈ lw_all := lw_g (lw_at lw_m2 85 rfl) rfl
theorem q430 : (Jvm.Cond.soleField "TitheBarn" "line") ∈ lw_all := lw_g (lw_at lw_m2 86 rfl) rfl
theorem q431 : (Jvm.Cond.laysFinal "TitheBarn" "TitheBarn" "commands" "[LTitheBarn$Command;") ∈ lw_all := lw_g (lw_at lw_m2 87 rfl) rfl
theorem q432 : (Jvm.Cond.soleField "TitheBarn" "commands") ∈ lw_all := lw_g (lw_at lw_m2 88 rfl) rfl
theorem q433 : (Jvm.Cond.lays "TitheBarn" "TitheBarn" "commandMany" "I") ∈ lw_all := lw_g (lw_at lw_m2 89 rfl) rfl
theorem q434 : (Jvm.Cond.soleField "TitheBarn" "commandMany") ∈ lw_all := lw_g (lw_at lw_m2 90 rfl) rfl
theorem q435 : (Jvm.Cond.lays "TitheBarn" "TitheBarn" "readAt" "I") ∈ lw_all := lw_g (lw_at lw_m2 91 rfl) rfl
theorem q436 : (Jvm.Cond.soleField "TitheBarn" "readAt") ∈ lw_all := lw_g (lw_at lw_m2 92 rfl) rfl
theorem q437 : (Jvm.Cond.superclass "TitheBarn" "java/lang/Object") ∈ lw_all := lw_g (lw_at lw_m2 93 rfl) rfl
theorem q439 : (Jvm.Cond.instanceMethod ({ cls := "TitheBarn", name := "clear", desc := "()I" } : Jvm.MethodName)) ∈ lw_all := lw_g (lw_at lw_m2 95 rfl) rfl
theorem q440 : (Jvm.Cond.selects "TitheBarn" ({ cls := "TitheBarn", name := "clear", desc := "()I" } : Jvm.MethodName) ({ cls := "TitheBarn", name := "clear", desc := "()I" } : Jvm.MethodName)) ∈ lw_all := lw_g (lw_at lw_m2 96 rfl) rfl
theorem q441 : (Jvm.Cond.code ({ cls := "TitheBarn", name := "clear", desc := "()I" } : Jvm.MethodName) prog_1_method_17_code (2 : Nat) (Option.some Jvm.ClassFile.FieldType.int)) ∈ lw_all := lw_g (lw_at lw_m2 97 rfl) rfl
theorem q442 : (Jvm.Cond.methodLink "TitheBarn" (86 : Nat) ({ cls := "TitheBarn$State", name := "clear", desc := "()V" } : Jvm.MethodName)) ∈ lw_all := lw_g (lw_at lw_m2 98 rfl) rfl
theorem q463 : (Jvm.Cond.instanceMethod ({ cls := "TitheBarn", name := "parish", desc := "(I)I" } : Jvm.MethodName)) ∈ lw_all := lw_g (lw_at lw_m2 119 rfl) rfl
theorem q464 : (Jvm.Cond.selects "TitheBarn" ({ cls := "TitheBarn", name := "parish", desc := "(I)I" } : Jvm.MethodName) ({ cls := "TitheBarn", name := "parish", desc := "(I)I" } : Jvm.MethodName)) ∈ lw_all := lw_g (lw_at lw_m2 120 rfl) rfl
theorem q465 : (Jvm.Cond.codeWith ({ cls := "TitheBarn", name := "parish", desc := "(I)I" } : Jvm.MethodName) prog_1_method_19_code (3 : Nat) (Option.some Jvm.ClassFile.FieldType.int) [((4 : Nat), (13 : Nat), (14 : Nat), (3 : Nat)), ((4 : Nat), (13 : Nat), (14 : Nat), (9 : Nat))]) ∈ lw_all := lw_g (lw_at lw_m2 121 rfl) rfl
theorem q466 : (Jvm.Cond.classLink "TitheBarn" (3 : Nat) "TitheBarn$Wrong") ∈ lw_all := lw_g (lw_at lw_m2 122 rfl) rfl
theorem q467 : (Jvm.Cond.classLink "TitheBarn" (9 : Nat) "TitheBarn$Refused") ∈ lw_all := lw_g (lw_at lw_m2 123 rfl) rfl
theorem q468 : (Jvm.Cond.methodLink "TitheBarn" (110 : Nat) ({ cls := "TitheBarn", name := "begins", desc := "()V" } : Jvm.MethodName)) ∈ lw_all := lw_g (lw_at lw_m2 124 rfl) rfl
theorem q469 : (Jvm.Cond.privateMethod ({ cls := "TitheBarn", name := "begins", desc := "()V" } : Jvm.MethodName)) ∈ lw_tbl := lw_at lw_m2 125 rfl
theorem q470 : (Jvm.Cond.instanceMethod ({ cls := "TitheBarn", name := "begins", desc := "()V" } : Jvm.MethodName)) ∈ lw_all := lw_g (lw_at lw_m2 126 rfl) rfl
theorem q471 : (Jvm.Cond.code ({ cls := "TitheBarn", name := "begins", desc := "()V" } : Jvm.MethodName) prog_1_method_9_code (1 : Nat) (Option.none : Option Jvm.ClassFile.FieldType)) ∈ lw_all := lw_g (lw_at lw_m2 127 rfl) rfl
theorem q472 : (Jvm.Cond.methodLink "TitheBarn" (59 : Nat) ({ cls := "TitheBarn$State", name := "like", desc := "(LTitheBarn$State;)V" } : Jvm.MethodName)) ∈ lw_all := lw_g (lw_at lw_m2 128 rfl) rfl
theorem q503 : (Jvm.Cond.methodLink "TitheBarn" (113 : Nat) ({ cls := "TitheBarn", name := "doParish", desc := "(I)I" } : Jvm.MethodName)) ∈ lw_all := lw_g (lw_at lw_m2 159 rfl) rfl
theorem q504 : (Jvm.Cond.privateMethod ({ cls := "TitheBarn", name := "doParish", desc := "(I)I" } : Jvm.MethodName)) ∈ lw_tbl := lw_at lw_m2 160 rfl
theorem q505 : (Jvm.Cond.instanceMethod ({ cls := "TitheBarn", name := "doParish", desc := "(I)I" } : Jvm.MethodName)) ∈ lw_all := lw_g (lw_at lw_m2 161 rfl) rfl
theorem q506 : (Jvm.Cond.code ({ cls := "TitheBarn", name := "doParish", desc := "(I)I" } : Jvm.MethodName) prog_1_method_18_code (2 : Nat) (Option.some Jvm.ClassFile.FieldType.int)) ∈ lw_all := lw_g (lw_at lw_m2 162 rfl) rfl
theorem q507 : (Jvm.Cond.methodLink "TitheBarn" (89 : Nat) ({ cls := "TitheBarn", name := "isKind", desc := "(I)Z" } : Jvm.MethodName)) ∈ lw_all := lw_g (lw_at lw_m2 163 rfl) rfl
theorem q508 : (Jvm.Cond.static ({ cls := "TitheBarn", name := "isKind", desc := "(I)Z" } : Jvm.MethodName)) ∈ lw_all := lw_g (lw_at lw_m2 164 rfl) rfl
theorem q509 : (Jvm.Cond.code ({ cls := "TitheBarn", name := "isKind", desc := "(I)Z" } : Jvm.MethodName) prog_1_method_15_code (1 : Nat) (Option.some Jvm.ClassFile.FieldType.boolean)) ∈ lw_all := lw_g (lw_at lw_m2 165 rfl) rfl
theorem q510 : (Jvm.Cond.methodLink "TitheBarn" (82 : Nat) ({ cls := "TitheBarn", name := "within", desc := "(III)Z" } : Jvm.MethodName)) ∈ lw_all := lw_g (lw_at lw_m2 166 rfl) rfl
theorem q511 : (Jvm.Cond.static ({ cls := "TitheBarn", name := "within", desc := "(III)Z" } : Jvm.MethodName)) ∈ lw_all := lw_g (lw_at lw_m2 167 rfl) rfl
theorem q512 : (Jvm.Cond.code ({ cls := "TitheBarn", name := "within", desc := "(III)Z" } : Jvm.MethodName) prog_1_method_1_code (3 : Nat) (Option.some Jvm.ClassFile.FieldType.boolean)) ∈ lw_all := lw_g (lw_at lw_m2 168 rfl) rfl
theorem q513 : (Jvm.Cond.methodLink "TitheBarn" (93 : Nat) ({ cls := "TitheBarn", name := "want", desc := "(ZI)V" } : Jvm.MethodName)) ∈ lw_all := lw_g (lw_at lw_m2 169 rfl) rfl
theorem q514 : (Jvm.Cond.static ({ cls := "TitheBarn", name := "want", desc := "(ZI)V" } : Jvm.MethodName)) ∈ lw_all := lw_g (lw_at lw_m2 170 rfl) rfl
theorem q515 : (Jvm.Cond.code ({ cls := "TitheBarn", name := "want", desc := "(ZI)V" } : Jvm.MethodName) prog_1_method_6_code (2 : Nat) (Option.none : Option Jvm.ClassFile.FieldType)) ∈ lw_all := lw_g (lw_at lw_m2 171 rfl) rfl
theorem q555 : (Jvm.Cond.methodLink "TitheBarn" (5 : Nat) ({ cls := "TitheBarn$Wrong", name := "<init>", desc := "(I)V" } : Jvm.MethodName)) ∈ lw_all := lw_g (lw_at lw_m2 211 rfl) rfl
theorem q565 : (Jvm.Cond.fieldLinkNest "TitheBarn" (72 : Nat) "TitheBarn$Wrong" "code" "I" "TitheBarn") ∈ lw_tbl := lw_at lw_m2 221 rfl
theorem q581 : (Jvm.Cond.methodLink "TitheBarn" (97 : Nat) ({ cls := "TitheBarn", name := "allow", desc := "(ZII)V" } : Jvm.MethodName)) ∈ lw_all := lw_g (lw_at lw_m2 237 rfl) rfl
theorem q582 : (Jvm.Cond.static ({ cls := "TitheBarn", name := "allow", desc := "(ZII)V" } : Jvm.MethodName)) ∈ lw_all := lw_g (lw_at lw_m2 238 rfl) rfl
theorem q583 : (Jvm.Cond.code ({ cls := "TitheBarn", name := "allow", desc := "(ZII)V" } : Jvm.MethodName) prog_1_method_7_code (3 : Nat) (Option.none : Option Jvm.ClassFile.FieldType)) ∈ lw_all := lw_g (lw_at lw_m2 239 rfl) rfl
theorem q592 : (Jvm.Cond.methodLink "TitheBarn" (11 : Nat) ({ cls := "TitheBarn$Refused", name := "<init>", desc := "(II)V" } : Jvm.MethodName)) ∈ lw_all := lw_g (lw_at lw_m3 8 rfl) rfl
theorem q600 : (Jvm.Cond.fieldLinkNest "TitheBarn" (387 : Nat) "TitheBarn$Refused" "reason" "I" "TitheBarn") ∈ lw_tbl := lw_at lw_m3 16 rfl
theorem q602 : (Jvm.Cond.fieldLinkNest "TitheBarn" (384 : Nat) "TitheBarn$Refused" "detail" "I" "TitheBarn") ∈ lw_tbl := lw_at lw_m3 18 rfl
theorem q609 : (Jvm.Cond.methodLink "TitheBarn" (105 : Nat) ({ cls := "TitheBarn$Parish", name := "becomes", desc := "(I)V" } : Jvm.MethodName)) ∈ lw_all := lw_g (lw_at lw_m3 25 rfl) rfl
theorem q613 : (Jvm.Cond.methodLink "TitheBarn" (117 : Nat) ({ cls := "TitheBarn", name := "changed", desc := "(I)I" } : Jvm.MethodName)) ∈ lw_all := lw_g (lw_at lw_m3 29 rfl) rfl
theorem q614 : (Jvm.Cond.privateMethod ({ cls := "TitheBarn", name := "changed", desc := "(I)I" } : Jvm.MethodName)) ∈ lw_tbl := lw_at lw_m3 30 rfl
theorem q615 : (Jvm.Cond.instanceMethod ({ cls := "TitheBarn", name := "changed", desc := "(I)I" } : Jvm.MethodName)) ∈ lw_all := lw_g (lw_at lw_m3 31 rfl) rfl
theorem q616 : (Jvm.Cond.code ({ cls := "TitheBarn", name := "changed", desc := "(I)I" } : Jvm.MethodName) prog_1_method_10_code (3 : Nat) (Option.some Jvm.ClassFile.FieldType.int)) ∈ lw_all := lw_g (lw_at lw_m3 32 rfl) rfl
theorem q617 : (Jvm.Cond.methodLink "TitheBarn" (66 : Nat) ({ cls := "java/lang/System", name := "arraycopy", desc := "(Ljava/lang/Object;ILjava/lang/Object;II)V" } : Jvm.MethodName)) ∈ lw_all := lw_g (lw_at lw_m3 33 rfl) rfl
theorem q618 : (Jvm.Cond.methodLink "TitheBarn" (120 : Nat) ({ cls := "TitheBarn", name := "notDone", desc := "(Ljava/lang/Exception;)I" } : Jvm.MethodName)) ∈ lw_all := lw_g (lw_at lw_m3 34 rfl) rfl
theorem q619 : (Jvm.Cond.privateMethod ({ cls := "TitheBarn", name := "notDone", desc := "(Ljava/lang/Exception;)I" } : Jvm.MethodName)) ∈ lw_tbl := lw_at lw_m3 35 rfl
theorem q620 : (Jvm.Cond.instanceMethod ({ cls := "TitheBarn", name := "notDone", desc := "(Ljava/lang/Exception;)I" } : Jvm.MethodName)) ∈ lw_all := lw_g (lw_at lw_m3 36 rfl) rfl
theorem q621 : (Jvm.Cond.code ({ cls := "TitheBarn", name := "notDone", desc := "(Ljava/lang/Exception;)I" } : Jvm.MethodName) prog_1_method_11_code (2 : Nat) (Option.some Jvm.ClassFile.FieldType.int)) ∈ lw_all := lw_g (lw_at lw_m3 37 rfl) rfl
theorem q623 : (Jvm.Cond.instanceMethod ({ cls := "TitheBarn", name := "harvest", desc := "(II)I" } : Jvm.MethodName)) ∈ lw_all := lw_g (lw_at lw_m3 39 rfl) rfl
theorem q624 : (Jvm.Cond.selects "TitheBarn" ({ cls := "TitheBarn", name := "harvest", desc := "(II)I" } : Jvm.MethodName) ({ cls := "TitheBarn", name := "harvest", desc := "(II)I" } : Jvm.MethodName)) ∈ lw_all := lw_g (lw_at lw_m3 40 rfl) rfl
theorem q625 : (Jvm.Cond.codeWith ({ cls := "TitheBarn", name := "harvest", desc := "(II)I" } : Jvm.MethodName) prog_1_method_21_code (4 : Nat) (Option.some Jvm.ClassFile.FieldType.int) [((4 : Nat), (14 : Nat), (15 : Nat), (3 : Nat))]) ∈ lw_all := lw_g (lw_at lw_m3 41 rfl) rfl
theorem q626 : (Jvm.Cond.methodLink "TitheBarn" (139 : Nat) ({ cls := "TitheBarn", name := "doHarvest", desc := "(II)I" } : Jvm.MethodName)) ∈ lw_all := lw_g (lw_at lw_m3 42 rfl) rfl
theorem q627 : (Jvm.Cond.privateMethod ({ cls := "TitheBarn", name := "doHarvest", desc := "(II)I" } : Jvm.MethodName)) ∈ lw_tbl := lw_at lw_m3 43 rfl
theorem q628 : (Jvm.Cond.instanceMethod ({ cls := "TitheBarn", name := "doHarvest", desc := "(II)I" } : Jvm.MethodName)) ∈ lw_all := lw_g (lw_at lw_m3 44 rfl) rfl
theorem q629 : (Jvm.Cond.code ({ cls := "TitheBarn", name := "doHarvest", desc := "(II)I" } : Jvm.MethodName) prog_1_method_20_code (5 : Nat) (Option.some Jvm.ClassFile.FieldType.int)) ∈ lw_all := lw_g (lw_at lw_m3 45 rfl) rfl
theorem q630 : (Jvm.Cond.methodLink "TitheBarn" (124 : Nat) ({ cls := "TitheBarn", name := "isParish", desc := "(I)Z" } : Jvm.MethodName)) ∈ lw_all := lw_g (lw_at lw_m3 46 rfl) rfl
theorem q631 : (Jvm.Cond.privateMethod ({ cls := "TitheBarn", name := "isParish", desc := "(I)Z" } : Jvm.MethodName)) ∈ lw_tbl := lw_at lw_m3 47 rfl
theorem q632 : (Jvm.Cond.instanceMethod ({ cls := "TitheBarn", name := "isParish", desc := "(I)Z" } : Jvm.MethodName)) ∈ lw_all := lw_g (lw_at lw_m3 48 rfl) rfl
theorem q633 : (Jvm.Cond.code ({ cls := "TitheBarn", name := "isParish", desc := "(I)Z" } : Jvm.MethodName) prog_1_method_12_code (2 : Nat) (Option.some Jvm.ClassFile.FieldType.boolean)) ∈ lw_all := lw_g (lw_at lw_m3 49 rfl) rfl
theorem q634 : (Jvm.Cond.methodLink "TitheBarn" (127 : Nat) ({ cls := "TitheBarn$Parish", name := "tithe", desc := "(I)I" } : Jvm.MethodName)) ∈ lw_all := lw_g (lw_at lw_m3 50 rfl) rfl
theorem q638 : (Jvm.Cond.methodLink "TitheBarn" (136 : Nat) ({ cls := "TitheBarn$Parish", name := "owes", desc := "(II)V" } : Jvm.MethodName)) ∈ lw_all := lw_g (lw_at lw_m3 54 rfl) rfl
theorem q643 : (Jvm.Cond.instanceMethod ({ cls := "TitheBarn", name := "cart", desc := "(III)I" } : Jvm.MethodName)) ∈ lw_all := lw_g (lw_at lw_m3 59 rfl) rfl
theorem q644 : (Jvm.Cond.selects "TitheBarn" ({ cls := "TitheBarn", name := "cart", desc := "(III)I" } : Jvm.MethodName) ({ cls := "TitheBarn", name := "cart", desc := "(III)I" } : Jvm.MethodName)) ∈ lw_all := lw_g (lw_at lw_m3 60 rfl) rfl
theorem q645 : (Jvm.Cond.codeWith ({ cls := "TitheBarn", name := "cart", desc := "(III)I" } : Jvm.MethodName) prog_1_method_23_code (5 : Nat) (Option.some Jvm.ClassFile.FieldType.int) [((4 : Nat), (15 : Nat), (16 : Nat), (3 : Nat)), ((4 : Nat), (15 : Nat), (16 : Nat), (9 : Nat))]) ∈ lw_all := lw_g (lw_at lw_m3 61 rfl) rfl
theorem q646 : (Jvm.Cond.methodLink "TitheBarn" (175 : Nat) ({ cls := "TitheBarn", name := "doCart", desc := "(III)I" } : Jvm.MethodName)) ∈ lw_all := lw_g (lw_at lw_m3 62 rfl) rfl
theorem q647 : (Jvm.Cond.privateMethod ({ cls := "TitheBarn", name := "doCart", desc := "(III)I" } : Jvm.MethodName)) ∈ lw_tbl := lw_at lw_m3 63 rfl
theorem q648 : (Jvm.Cond.instanceMethod ({ cls := "TitheBarn", name := "doCart", desc := "(III)I" } : Jvm.MethodName)) ∈ lw_all := lw_g (lw_at lw_m3 64 rfl) rfl
theorem q649 : (Jvm.Cond.code ({ cls := "TitheBarn", name := "doCart", desc := "(III)I" } : Jvm.MethodName) prog_1_method_22_code (6 : Nat) (Option.some Jvm.ClassFile.FieldType.int)) ∈ lw_all := lw_g (lw_at lw_m3 65 rfl) rfl
theorem q650 : (Jvm.Cond.methodLink "TitheBarn" (143 : Nat) ({ cls := "TitheBarn", name := "isBay", desc := "(I)Z" } : Jvm.MethodName)) ∈ lw_all := lw_g (lw_at lw_m3 66 rfl) rfl
theorem q651 : (Jvm.Cond.static ({ cls := "TitheBarn", name := "isBay", desc := "(I)Z" } : Jvm.MethodName)) ∈ lw_all := lw_g (lw_at lw_m3 67 rfl) rfl
theorem q652 : (Jvm.Cond.code ({ cls := "TitheBarn", name := "isBay", desc := "(I)Z" } : Jvm.MethodName) prog_1_method_13_code (1 : Nat) (Option.some Jvm.ClassFile.FieldType.boolean)) ∈ lw_all := lw_g (lw_at lw_m3 68 rfl) rfl
theorem q653 : (Jvm.Cond.methodLink "TitheBarn" (146 : Nat) ({ cls := "TitheBarn", name := "all", desc := "([Z)Z" } : Jvm.MethodName)) ∈ lw_all := lw_g (lw_at lw_m3 69 rfl) rfl
theorem q654 : (Jvm.Cond.static ({ cls := "TitheBarn", name := "all", desc := "([Z)Z" } : Jvm.MethodName)) ∈ lw_all := lw_g (lw_at lw_m3 70 rfl) rfl
theorem q655 : (Jvm.Cond.code ({ cls := "TitheBarn", name := "all", desc := "([Z)Z" } : Jvm.MethodName) prog_1_method_2_code (5 : Nat) (Option.some Jvm.ClassFile.FieldType.boolean)) ∈ lw_all := lw_g (lw_at lw_m3 71 rfl) rfl
theorem q656 : (Jvm.Cond.methodLink "TitheBarn" (154 : Nat) ({ cls := "TitheBarn$Parish", name := "due", desc := "()I" } : Jvm.MethodName)) ∈ lw_all := lw_g (lw_at lw_m3 72 rfl) rfl
theorem q660 : (Jvm.Cond.methodLink "TitheBarn" (161 : Nat) ({ cls := "TitheBarn$Refused", name := "<init>", desc := "(IILTitheBarn$Refused;)V" } : Jvm.MethodName)) ∈ lw_all := lw_g (lw_at lw_m3 76 rfl) rfl
theorem q661 : (Jvm.Cond.methodLink "TitheBarn" (169 : Nat) ({ cls := "TitheBarn$Parish", name := "gives", desc := "(I)V" } : Jvm.MethodName)) ∈ lw_all := lw_g (lw_at lw_m3 77 rfl) rfl
theorem q672 : (Jvm.Cond.methodLink "TitheBarn" (172 : Nat) ({ cls := "TitheBarn$Bay", name := "puts", desc := "(II)V" } : Jvm.MethodName)) ∈ lw_all := lw_g (lw_at lw_m3 88 rfl) rfl
theorem q678 : (Jvm.Cond.instanceMethod ({ cls := "TitheBarn", name := "thresh", desc := "(III)I" } : Jvm.MethodName)) ∈ lw_all := lw_g (lw_at lw_m3 94 rfl) rfl
theorem q679 : (Jvm.Cond.selects "TitheBarn" ({ cls := "TitheBarn", name := "thresh", desc := "(III)I" } : Jvm.MethodName) ({ cls := "TitheBarn", name := "thresh", desc := "(III)I" } : Jvm.MethodName)) ∈ lw_all := lw_g (lw_at lw_m3 95 rfl) rfl
theorem q680 : (Jvm.Cond.codeWith ({ cls := "TitheBarn", name := "thresh", desc := "(III)I" } : Jvm.MethodName) prog_1_method_27_code (5 : Nat) (Option.some Jvm.ClassFile.FieldType.int) [((4 : Nat), (15 : Nat), (16 : Nat), (3 : Nat)), ((4 : Nat), (15 : Nat), (16 : Nat), (9 : Nat))]) ∈ lw_all := lw_g (lw_at lw_m3 96 rfl) rfl
theorem q681 : (Jvm.Cond.methodLink "TitheBarn" (217 : Nat) ({ cls := "TitheBarn", name := "doThresh", desc := "(III)I" } : Jvm.MethodName)) ∈ lw_all := lw_g (lw_at lw_m3 97 rfl) rfl
theorem q682 : (Jvm.Cond.privateMethod ({ cls := "TitheBarn", name := "doThresh", desc := "(III)I" } : Jvm.MethodName)) ∈ lw_tbl := lw_at lw_m3 98 rfl
theorem q683 : (Jvm.Cond.instanceMethod ({ cls := "TitheBarn", name := "doThresh", desc := "(III)I" } : Jvm.MethodName)) ∈ lw_all := lw_g (lw_at lw_m3 99 rfl) rfl
theorem q684 : (Jvm.Cond.code ({ cls := "TitheBarn", name := "doThresh", desc := "(III)I" } : Jvm.MethodName) prog_1_method_26_code (10 : Nat) (Option.some Jvm.ClassFile.FieldType.int)) ∈ lw_all := lw_g (lw_at lw_m3 100 rfl) rfl
theorem q685 : (Jvm.Cond.methodLink "TitheBarn" (199 : Nat) ({ cls := "TitheBarn", name := "isFloor", desc := "(I)Z" } : Jvm.MethodName)) ∈ lw_all := lw_g (lw_at lw_m3 101 rfl) rfl
theorem q686 : (Jvm.Cond.static ({ cls := "TitheBarn", name := "isFloor", desc := "(I)Z" } : Jvm.MethodName)) ∈ lw_all := lw_g (lw_at lw_m3 102 rfl) rfl
theorem q687 : (Jvm.Cond.code ({ cls := "TitheBarn", name := "isFloor", desc := "(I)Z" } : Jvm.MethodName) prog_1_method_14_code (1 : Nat) (Option.some Jvm.ClassFile.FieldType.boolean)) ∈ lw_all := lw_g (lw_at lw_m3 103 rfl) rfl
theorem q688 : (Jvm.Cond.methodLink "TitheBarn" (206 : Nat) ({ cls := "TitheBarn", name := "otherKind", desc := "(LTitheBarn$Bay;I)I" } : Jvm.MethodName)) ∈ lw_all := lw_g (lw_at lw_m3 104 rfl) rfl
theorem q689 : (Jvm.Cond.privateMethod ({ cls := "TitheBarn", name := "otherKind", desc := "(LTitheBarn$Bay;I)I" } : Jvm.MethodName)) ∈ lw_tbl := lw_at lw_m3 105 rfl
theorem q690 : (Jvm.Cond.instanceMethod ({ cls := "TitheBarn", name := "otherKind", desc := "(LTitheBarn$Bay;I)I" } : Jvm.MethodName)) ∈ lw_all := lw_g (lw_at lw_m3 106 rfl) rfl
theorem q691 : (Jvm.Cond.code ({ cls := "TitheBarn", name := "otherKind", desc := "(LTitheBarn$Bay;I)I" } : Jvm.MethodName) prog_1_method_25_code (6 : Nat) (Option.some Jvm.ClassFile.FieldType.int)) ∈ lw_all := lw_g (lw_at lw_m3 107 rfl) rfl
theorem q692 : (Jvm.Cond.methodLink "TitheBarn" (194 : Nat) ({ cls := "TitheBarn", name := "kindOfLot", desc := "(LTitheBarn$Lot;)I" } : Jvm.MethodName)) ∈ lw_all := lw_g (lw_at lw_m3 108 rfl) rfl
theorem q693 : (Jvm.Cond.privateMethod ({ cls := "TitheBarn", name := "kindOfLot", desc := "(LTitheBarn$Lot;)I" } : Jvm.MethodName)) ∈ lw_tbl := lw_at lw_m3 109 rfl
theorem q694 : (Jvm.Cond.instanceMethod ({ cls := "TitheBarn", name := "kindOfLot", desc := "(LTitheBarn$Lot;)I" } : Jvm.MethodName)) ∈ lw_all := lw_g (lw_at lw_m3 110 rfl) rfl
theorem q695 : (Jvm.Cond.code ({ cls := "TitheBarn", name := "kindOfLot", desc := "(LTitheBarn$Lot;)I" } : Jvm.MethodName) prog_1_method_24_code (2 : Nat) (Option.some Jvm.ClassFile.FieldType.int)) ∈ lw_all := lw_g (lw_at lw_m3 111 rfl) rfl
theorem q696 : (Jvm.Cond.methodLink "TitheBarn" (214 : Nat) ({ cls := "TitheBarn$Bay", name := "takes", desc := "()I" } : Jvm.MethodName)) ∈ lw_all := lw_g (lw_at lw_m3 112 rfl) rfl
theorem q701 : (Jvm.Cond.instanceMethod ({ cls := "TitheBarn", name := "flails", desc := "(II)I" } : Jvm.MethodName)) ∈ lw_all := lw_g (lw_at lw_m3 117 rfl) rfl
theorem q702 : (Jvm.Cond.selects "TitheBarn" ({ cls := "TitheBarn", name := "flails", desc := "(II)I" } : Jvm.MethodName) ({ cls := "TitheBarn", name := "flails", desc := "(II)I" } : Jvm.MethodName)) ∈ lw_all := lw_g (lw_at lw_m3 118 rfl) rfl
theorem q703 : (Jvm.Cond.codeWith ({ cls := "TitheBarn", name := "flails", desc := "(II)I" } : Jvm.MethodName) prog_1_method_29_code (4 : Nat) (Option.some Jvm.ClassFile.FieldType.int) [((4 : Nat), (14 : Nat), (15 : Nat), (3 : Nat))]) ∈ lw_all := lw_g (lw_at lw_m3 119 rfl) rfl
theorem q704 : (Jvm.Cond.methodLink "TitheBarn" (223 : Nat) ({ cls := "TitheBarn", name := "doFlails", desc := "(II)I" } : Jvm.MethodName)) ∈ lw_all := lw_g (lw_at lw_m3 120 rfl) rfl
theorem q705 : (Jvm.Cond.privateMethod ({ cls := "TitheBarn", name := "doFlails", desc := "(II)I" } : Jvm.MethodName)) ∈ lw_tbl := lw_at lw_m3 121 rfl
theorem q706 : (Jvm.Cond.instanceMethod ({ cls := "TitheBarn", name := "doFlails", desc := "(II)I" } : Jvm.MethodName)) ∈ lw_all := lw_g (lw_at lw_m3 122 rfl) rfl
theorem q707 : (Jvm.Cond.code ({ cls := "TitheBarn", name := "doFlails", desc := "(II)I" } : Jvm.MethodName) prog_1_method_28_code (4 : Nat) (Option.some Jvm.ClassFile.FieldType.int)) ∈ lw_all := lw_g (lw_at lw_m3 123 rfl) rfl
theorem q709 : (Jvm.Cond.instanceMethod ({ cls := "TitheBarn", name := "price", desc := "(II)I" } : Jvm.MethodName)) ∈ lw_all := lw_g (lw_at lw_m3 125 rfl) rfl
theorem q710 : (Jvm.Cond.selects "TitheBarn" ({ cls := "TitheBarn", name := "price", desc := "(II)I" } : Jvm.MethodName) ({ cls := "TitheBarn", name := "price", desc := "(II)I" } : Jvm.MethodName)) ∈ lw_all := lw_g (lw_at lw_m3 126 rfl) rfl
theorem q711 : (Jvm.Cond.codeWith ({ cls := "TitheBarn", name := "price", desc := "(II)I" } : Jvm.MethodName) prog_1_method_31_code (4 : Nat) (Option.some Jvm.ClassFile.FieldType.int) [((4 : Nat), (14 : Nat), (15 : Nat), (3 : Nat))]) ∈ lw_all := lw_g (lw_at lw_m3 127 rfl) rfl
theorem q712 : (Jvm.Cond.methodLink "TitheBarn" (235 : Nat) ({ cls := "TitheBarn", name := "doPrice", desc := "(II)I" } : Jvm.MethodName)) ∈ lw_all := lw_g (lw_at lw_m3 128 rfl) rfl
theorem q713 : (Jvm.Cond.privateMethod ({ cls := "TitheBarn", name := "doPrice", desc := "(II)I" } : Jvm.MethodName)) ∈ lw_tbl := lw_at lw_m3 129 rfl
theorem q714 : (Jvm.Cond.instanceMethod ({ cls := "TitheBarn", name := "doPrice", desc := "(II)I" } : Jvm.MethodName)) ∈ lw_all := lw_g (lw_at lw_m3 130 rfl) rfl
theorem q715 : (Jvm.Cond.code ({ cls := "TitheBarn", name := "doPrice", desc := "(II)I" } : Jvm.MethodName) prog_1_method_30_code (4 : Nat) (Option.some Jvm.ClassFile.FieldType.int)) ∈ lw_all := lw_g (lw_at lw_m3 131 rfl) rfl
theorem q717 : (Jvm.Cond.instanceMethod ({ cls := "TitheBarn", name := "sell", desc := "(III)I" } : Jvm.MethodName)) ∈ lw_all := lw_g (lw_at lw_m3 133 rfl) rfl
theorem q718 : (Jvm.Cond.selects "TitheBarn" ({ cls := "TitheBarn", name := "sell", desc := "(III)I" } : Jvm.MethodName) ({ cls := "TitheBarn", name := "sell", desc := "(III)I" } : Jvm.MethodName)) ∈ lw_all := lw_g (lw_at lw_m3 134 rfl) rfl
theorem q719 : (Jvm.Cond.codeWith ({ cls := "TitheBarn", name := "sell", desc := "(III)I" } : Jvm.MethodName) prog_1_method_33_code (5 : Nat) (Option.some Jvm.ClassFile.FieldType.int) [((4 : Nat), (15 : Nat), (16 : Nat), (3 : Nat)), ((4 : Nat), (15 : Nat), (16 : Nat), (9 : Nat))]) ∈ lw_all := lw_g (lw_at lw_m3 135 rfl) rfl
theorem q720 : (Jvm.Cond.methodLink "TitheBarn" (259 : Nat) ({ cls := "TitheBarn", name := "doSell", desc := "(III)I" } : Jvm.MethodName)) ∈ lw_all := lw_g (lw_at lw_m3 136 rfl) rfl
theorem q721 : (Jvm.Cond.privateMethod ({ cls := "TitheBarn", name := "doSell", desc := "(III)I" } : Jvm.MethodName)) ∈ lw_tbl := lw_at lw_m3 137 rfl
theorem q722 : (Jvm.Cond.instanceMethod ({ cls := "TitheBarn", name := "doSell", desc := "(III)I" } : Jvm.MethodName)) ∈ lw_all := lw_g (lw_at lw_m3 138 rfl) rfl
theorem q723 : (Jvm.Cond.code ({ cls := "TitheBarn", name := "doSell", desc := "(III)I" } : Jvm.MethodName) prog_1_method_32_code (7 : Nat) (Option.some Jvm.ClassFile.FieldType.int)) ∈ lw_all := lw_g (lw_at lw_m3 139 rfl) rfl
theorem q725 : (Jvm.Cond.instanceMethod ({ cls := "TitheBarn", name := "settle", desc := "(II)I" } : Jvm.MethodName)) ∈ lw_all := lw_g (lw_at lw_m3 141 rfl) rfl
theorem q726 : (Jvm.Cond.selects "TitheBarn" ({ cls := "TitheBarn", name := "settle", desc := "(II)I" } : Jvm.MethodName) ({ cls := "TitheBarn", name := "settle", desc := "(II)I" } : Jvm.MethodName)) ∈ lw_all := lw_g (lw_at lw_m3 142 rfl) rfl
theorem q727 : (Jvm.Cond.codeWith ({ cls := "TitheBarn", name := "settle", desc := "(II)I" } : Jvm.MethodName) prog_1_method_35_code (4 : Nat) (Option.some Jvm.ClassFile.FieldType.int) [((4 : Nat), (14 : Nat), (15 : Nat), (3 : Nat)), ((4 : Nat), (14 : Nat), (15 : Nat), (9 : Nat))]) ∈ lw_all := lw_g (lw_at lw_m3 143 rfl) rfl
theorem q728 : (Jvm.Cond.methodLink "TitheBarn" (262 : Nat) ({ cls := "TitheBarn", name := "doSettle", desc := "(II)I" } : Jvm.MethodName)) ∈ lw_all := lw_g (lw_at lw_m3 144 rfl) rfl
theorem q729 : (Jvm.Cond.privateMethod ({ cls := "TitheBarn", name := "doSettle", desc := "(II)I" } : Jvm.MethodName)) ∈ lw_tbl := lw_at lw_m3 145 rfl
theorem q730 : (Jvm.Cond.instanceMethod ({ cls := "TitheBarn", name := "doSettle", desc := "(II)I" } : Jvm.MethodName)) ∈ lw_all := lw_g (lw_at lw_m3 146 rfl) rfl
theorem q731 : (Jvm.Cond.code ({ cls := "TitheBarn", name := "doSettle", desc := "(II)I" } : Jvm.MethodName) prog_1_method_34_code (4 : Nat) (Option.some Jvm.ClassFile.FieldType.int)) ∈ lw_all := lw_g (lw_at lw_m3 147 rfl) rfl
theorem q733 : (Jvm.Cond.instanceMethod ({ cls := "TitheBarn", name := "stop", desc := "(I)I" } : Jvm.MethodName)) ∈ lw_all := lw_g (lw_at lw_m3 149 rfl) rfl
theorem q734 : (Jvm.Cond.selects "TitheBarn" ({ cls := "TitheBarn", name := "stop", desc := "(I)I" } : Jvm.MethodName) ({ cls := "TitheBarn", name := "stop", desc := "(I)I" } : Jvm.MethodName)) ∈ lw_all := lw_g (lw_at lw_m3 150 rfl) rfl
theorem q735 : (Jvm.Cond.codeWith ({ cls := "TitheBarn", name := "stop", desc := "(I)I" } : Jvm.MethodName) prog_1_method_37_code (3 : Nat) (Option.some Jvm.ClassFile.FieldType.int) [((4 : Nat), (13 : Nat), (14 : Nat), (3 : Nat)), ((4 : Nat), (13 : Nat), (14 : Nat), (9 : Nat))]) ∈ lw_all := lw_g (lw_at lw_m3 151 rfl) rfl
theorem q736 : (Jvm.Cond.methodLink "TitheBarn" (271 : Nat) ({ cls := "TitheBarn", name := "doStop", desc := "(I)I" } : Jvm.MethodName)) ∈ lw_all := lw_g (lw_at lw_m3 152 rfl) rfl
theorem q737 : (Jvm.Cond.privateMethod ({ cls := "TitheBarn", name := "doStop", desc := "(I)I" } : Jvm.MethodName)) ∈ lw_tbl := lw_at lw_m3 153 rfl
theorem q738 : (Jvm.Cond.instanceMethod ({ cls := "TitheBarn", name := "doStop", desc := "(I)I" } : Jvm.MethodName)) ∈ lw_all := lw_g (lw_at lw_m3 154 rfl) rfl
theorem q739 : (Jvm.Cond.code ({ cls := "TitheBarn", name := "doStop", desc := "(I)I" } : Jvm.MethodName) prog_1_method_36_code (2 : Nat) (Option.some Jvm.ClassFile.FieldType.int)) ∈ lw_all := lw_g (lw_at lw_m3 155 rfl) rfl
theorem q740 : (Jvm.Cond.methodLink "TitheBarn" (265 : Nat) ({ cls := "TitheBarn", name := "isPlace", desc := "(I)Z" } : Jvm.MethodName)) ∈ lw_all := lw_g (lw_at lw_m3 156 rfl) rfl
theorem q741 : (Jvm.Cond.static ({ cls := "TitheBarn", name := "isPlace", desc := "(I)Z" } : Jvm.MethodName)) ∈ lw_all := lw_g (lw_at lw_m3 157 rfl) rfl
theorem q742 : (Jvm.Cond.code ({ cls := "TitheBarn", name := "isPlace", desc := "(I)Z" } : Jvm.MethodName) prog_1_method_16_code (1 : Nat) (Option.some Jvm.ClassFile.FieldType.boolean)) ∈ lw_all := lw_g (lw_at lw_m3 158 rfl) rfl
theorem q744 : (Jvm.Cond.instanceMethod ({ cls := "TitheBarn", name := "cat", desc := "(I)I" } : Jvm.MethodName)) ∈ lw_all := lw_g (lw_at lw_m3 160 rfl) rfl
theorem q745 : (Jvm.Cond.selects "TitheBarn" ({ cls := "TitheBarn", name := "cat", desc := "(I)I" } : Jvm.MethodName) ({ cls := "TitheBarn", name := "cat", desc := "(I)I" } : Jvm.MethodName)) ∈ lw_all := lw_g (lw_at lw_m3 161 rfl) rfl
theorem q746 : (Jvm.Cond.codeWith ({ cls := "TitheBarn", name := "cat", desc := "(I)I" } : Jvm.MethodName) prog_1_method_39_code (3 : Nat) (Option.some Jvm.ClassFile.FieldType.int) [((4 : Nat), (13 : Nat), (14 : Nat), (3 : Nat))]) ∈ lw_all := lw_g (lw_at lw_m3 162 rfl) rfl
theorem q747 : (Jvm.Cond.methodLink "TitheBarn" (277 : Nat) ({ cls := "TitheBarn", name := "doCat", desc := "(I)I" } : Jvm.MethodName)) ∈ lw_all := lw_g (lw_at lw_m3 163 rfl) rfl
theorem q748 : (Jvm.Cond.privateMethod ({ cls := "TitheBarn", name := "doCat", desc := "(I)I" } : Jvm.MethodName)) ∈ lw_tbl := lw_at lw_m3 164 rfl
theorem q749 : (Jvm.Cond.instanceMethod ({ cls := "TitheBarn", name := "doCat", desc := "(I)I" } : Jvm.MethodName)) ∈ lw_all := lw_g (lw_at lw_m3 165 rfl) rfl
theorem q750 : (Jvm.Cond.code ({ cls := "TitheBarn", name := "doCat", desc := "(I)I" } : Jvm.MethodName) prog_1_method_38_code (3 : Nat) (Option.some Jvm.ClassFile.FieldType.int)) ∈ lw_all := lw_g (lw_at lw_m3 166 rfl) rfl
theorem q752 : (Jvm.Cond.instanceMethod ({ cls := "TitheBarn", name := "pass", desc := "(I)I" } : Jvm.MethodName)) ∈ lw_all := lw_g (lw_at lw_m3 168 rfl) rfl
theorem q753 : (Jvm.Cond.selects "TitheBarn" ({ cls := "TitheBarn", name := "pass", desc := "(I)I" } : Jvm.MethodName) ({ cls := "TitheBarn", name := "pass", desc := "(I)I" } : Jvm.MethodName)) ∈ lw_all := lw_g (lw_at lw_m3 169 rfl) rfl
theorem q754 : (Jvm.Cond.codeWith ({ cls := "TitheBarn", name := "pass", desc := "(I)I" } : Jvm.MethodName) prog_1_method_41_code (3 : Nat) (Option.some Jvm.ClassFile.FieldType.int) [((4 : Nat), (13 : Nat), (14 : Nat), (3 : Nat))]) ∈ lw_all := lw_g (lw_at lw_m3 170 rfl) rfl
theorem q755 : (Jvm.Cond.methodLink "TitheBarn" (283 : Nat) ({ cls := "TitheBarn", name := "doPass", desc := "(I)I" } : Jvm.MethodName)) ∈ lw_all := lw_g (lw_at lw_m3 171 rfl) rfl
theorem q756 : (Jvm.Cond.privateMethod ({ cls := "TitheBarn", name := "doPass", desc := "(I)I" } : Jvm.MethodName)) ∈ lw_tbl := lw_at lw_m3 172 rfl
theorem q757 : (Jvm.Cond.instanceMethod ({ cls := "TitheBarn", name := "doPass", desc := "(I)I" } : Jvm.MethodName)) ∈ lw_all := lw_g (lw_at lw_m3 173 rfl) rfl
theorem q758 : (Jvm.Cond.code ({ cls := "TitheBarn", name := "doPass", desc := "(I)I" } : Jvm.MethodName) prog_1_method_40_code (4 : Nat) (Option.some Jvm.ClassFile.FieldType.int)) ∈ lw_all := lw_g (lw_at lw_m3 174 rfl) rfl
theorem q759 : (Jvm.Cond.methodLink "TitheBarn" (280 : Nat) ({ cls := "TitheBarn$State", name := "passes", desc := "()I" } : Jvm.MethodName)) ∈ lw_all := lw_g (lw_at lw_m3 175 rfl) rfl
theorem q769 : (Jvm.Cond.static ({ cls := "TitheBarn", name := "pintsOf", desc := "(I)I" } : Jvm.MethodName)) ∈ lw_all := lw_g (lw_at lw_m3 185 rfl) rfl
theorem q770 : (Jvm.Cond.code ({ cls := "TitheBarn", name := "pintsOf", desc := "(I)I" } : Jvm.MethodName) prog_1_method_3_code (1 : Nat) (Option.some Jvm.ClassFile.FieldType.int)) ∈ lw_all := lw_g (lw_at lw_m3 186 rfl) rfl
theorem q785 : (Jvm.Cond.static ({ cls := "TitheBarn", name := "half", desc := "(I)I" } : Jvm.MethodName)) ∈ lw_all := lw_g (lw_at lw_m3 201 rfl) rfl
theorem q786 : (Jvm.Cond.code ({ cls := "TitheBarn", name := "half", desc := "(I)I" } : Jvm.MethodName) prog_1_method_5_code (1 : Nat) (Option.some Jvm.ClassFile.FieldType.int)) ∈ lw_all := lw_g (lw_at lw_m3 202 rfl) rfl
theorem q793 : (Jvm.Cond.instanceMethod ({ cls := "TitheBarn", name := "append", desc := "(C)I" } : Jvm.MethodName)) ∈ lw_all := lw_g (lw_at lw_m3 209 rfl) rfl
theorem q794 : (Jvm.Cond.selects "TitheBarn" ({ cls := "TitheBarn", name := "append", desc := "(C)I" } : Jvm.MethodName) ({ cls := "TitheBarn", name := "append", desc := "(C)I" } : Jvm.MethodName)) ∈ lw_all := lw_g (lw_at lw_m3 210 rfl) rfl
theorem q795 : (Jvm.Cond.code ({ cls := "TitheBarn", name := "append", desc := "(C)I" } : Jvm.MethodName) prog_1_method_42_code (2 : Nat) (Option.some Jvm.ClassFile.FieldType.int)) ∈ lw_all := lw_g (lw_at lw_m3 211 rfl) rfl
theorem q796 : (Jvm.Cond.methodLink "TitheBarn" (286 : Nat) ({ cls := "java/lang/StringBuilder", name := "length", desc := "()I" } : Jvm.MethodName)) ∈ lw_all := lw_g (lw_at lw_m3 212 rfl) rfl
theorem q803 : (Jvm.Cond.methodLink "TitheBarn" (289 : Nat) ({ cls := "java/lang/StringBuilder", name := "append", desc := "(C)Ljava/lang/StringBuilder;" } : Jvm.MethodName)) ∈ lw_all := lw_g (lw_at lw_m3 219 rfl) rfl
theorem q895 : (Jvm.Cond.instanceMethod ({ cls := "TitheBarn", name := "fault", desc := "()I" } : Jvm.MethodName)) ∈ lw_all := lw_g (lw_at lw_m4 71 rfl) rfl
theorem q896 : (Jvm.Cond.selects "TitheBarn" ({ cls := "TitheBarn", name := "fault", desc := "()I" } : Jvm.MethodName) ({ cls := "TitheBarn", name := "fault", desc := "()I" } : Jvm.MethodName)) ∈ lw_all := lw_g (lw_at lw_m4 72 rfl) rfl
theorem q897 : (Jvm.Cond.code ({ cls := "TitheBarn", name := "fault", desc := "()I" } : Jvm.MethodName) prog_1_method_43_code (1 : Nat) (Option.some Jvm.ClassFile.FieldType.int)) ∈ lw_all := lw_g (lw_at lw_m4 73 rfl) rfl
theorem q899 : (Jvm.Cond.instanceMethod ({ cls := "TitheBarn", name := "script", desc := "()I" } : Jvm.MethodName)) ∈ lw_all := lw_g (lw_at lw_m4 75 rfl) rfl
theorem q900 : (Jvm.Cond.selects "TitheBarn" ({ cls := "TitheBarn", name := "script", desc := "()I" } : Jvm.MethodName) ({ cls := "TitheBarn", name := "script", desc := "()I" } : Jvm.MethodName)) ∈ lw_all := lw_g (lw_at lw_m4 76 rfl) rfl
theorem q901 : (Jvm.Cond.codeWith ({ cls := "TitheBarn", name := "script", desc := "()I" } : Jvm.MethodName) prog_1_method_55_code (2 : Nat) (Option.some Jvm.ClassFile.FieldType.int) [((14 : Nat), (22 : Nat), (23 : Nat), (9 : Nat))]) ∈ lw_all := lw_g (lw_at lw_m4 77 rfl) rfl
theorem q902 : (Jvm.Cond.methodLink "TitheBarn" (373 : Nat) ({ cls := "TitheBarn", name := "readsScript", desc := "()Z" } : Jvm.MethodName)) ∈ lw_all := lw_g (lw_at lw_m4 78 rfl) rfl
theorem q903 : (Jvm.Cond.privateMethod ({ cls := "TitheBarn", name := "readsScript", desc := "()Z" } : Jvm.MethodName)) ∈ lw_tbl := lw_at lw_m4 79 rfl
theorem q904 : (Jvm.Cond.instanceMethod ({ cls := "TitheBarn", name := "readsScript", desc := "()Z" } : Jvm.MethodName)) ∈ lw_all := lw_g (lw_at lw_m4 80 rfl) rfl
theorem q905 : (Jvm.Cond.codeWith ({ cls := "TitheBarn", name := "readsScript", desc := "()Z" } : Jvm.MethodName) prog_1_method_53_code (4 : Nat) (Option.some Jvm.ClassFile.FieldType.boolean) [((10 : Nat), (66 : Nat), (76 : Nat), (304 : Nat)), ((10 : Nat), (66 : Nat), (97 : Nat), (0 : Nat)), ((76 : Nat), (87 : Nat), (97 : Nat), (0 : Nat))]) ∈ lw_all := lw_g (lw_at lw_m4 81 rfl) rfl
theorem q906 : (Jvm.Cond.classLink "TitheBarn" (304 : Nat) "TitheBarn$Fault") ∈ lw_all := lw_g (lw_at lw_m4 82 rfl) rfl
theorem q907 : (Jvm.Cond.methodLink "TitheBarn" (364 : Nat) ({ cls := "TitheBarn", name := "command", desc := "()LTitheBarn$Command;" } : Jvm.MethodName)) ∈ lw_all := lw_g (lw_at lw_m4 83 rfl) rfl
theorem q908 : (Jvm.Cond.privateMethod ({ cls := "TitheBarn", name := "command", desc := "()LTitheBarn$Command;" } : Jvm.MethodName)) ∈ lw_tbl := lw_at lw_m4 84 rfl
theorem q909 : (Jvm.Cond.instanceMethod ({ cls := "TitheBarn", name := "command", desc := "()LTitheBarn$Command;" } : Jvm.MethodName)) ∈ lw_all := lw_g (lw_at lw_m4 85 rfl) rfl
theorem q910 : (Jvm.Cond.code ({ cls := "TitheBarn", name := "command", desc := "()LTitheBarn$Command;" } : Jvm.MethodName) prog_1_method_51_code (3 : Nat) (Option.some (Jvm.ClassFile.FieldType.object "TitheBarn$Command"))) ∈ lw_all := lw_g (lw_at lw_m4 86 rfl) rfl
theorem q911 : (Jvm.Cond.methodLink "TitheBarn" (307 : Nat) ({ cls := "TitheBarn", name := "takesIf", desc := "(C)Z" } : Jvm.MethodName)) ∈ lw_all := lw_g (lw_at lw_m4 87 rfl) rfl
theorem q912 : (Jvm.Cond.privateMethod ({ cls := "TitheBarn", name := "takesIf", desc := "(C)Z" } : Jvm.MethodName)) ∈ lw_tbl := lw_at lw_m4 88 rfl
theorem q913 : (Jvm.Cond.instanceMethod ({ cls := "TitheBarn", name := "takesIf", desc := "(C)Z" } : Jvm.MethodName)) ∈ lw_all := lw_g (lw_at lw_m4 89 rfl) rfl
theorem q914 : (Jvm.Cond.code ({ cls := "TitheBarn", name := "takesIf", desc := "(C)Z" } : Jvm.MethodName) prog_1_method_45_code (3 : Nat) (Option.some Jvm.ClassFile.FieldType.boolean)) ∈ lw_all := lw_g (lw_at lw_m4 90 rfl) rfl
theorem q915 : (Jvm.Cond.methodLink "TitheBarn" (300 : Nat) ({ cls := "TitheBarn", name := "isHere", desc := "(CC)Z" } : Jvm.MethodName)) ∈ lw_all := lw_g (lw_at lw_m4 91 rfl) rfl
theorem q916 : (Jvm.Cond.privateMethod ({ cls := "TitheBarn", name := "isHere", desc := "(CC)Z" } : Jvm.MethodName)) ∈ lw_tbl := lw_at lw_m4 92 rfl
theorem q917 : (Jvm.Cond.instanceMethod ({ cls := "TitheBarn", name := "isHere", desc := "(CC)Z" } : Jvm.MethodName)) ∈ lw_all := lw_g (lw_at lw_m4 93 rfl) rfl
theorem q918 : (Jvm.Cond.code ({ cls := "TitheBarn", name := "isHere", desc := "(CC)Z" } : Jvm.MethodName) prog_1_method_44_code (3 : Nat) (Option.some Jvm.ClassFile.FieldType.boolean)) ∈ lw_all := lw_g (lw_at lw_m4 94 rfl) rfl
theorem q919 : (Jvm.Cond.methodLink "TitheBarn" (296 : Nat) ({ cls := "java/lang/StringBuilder", name := "charAt", desc := "(I)C" } : Jvm.MethodName)) ∈ lw_all := lw_g (lw_at lw_m4 95 rfl) rfl
theorem q931 : (Jvm.Cond.methodLink "TitheBarn" (311 : Nat) ({ cls := "TitheBarn", name := "digit", desc := "()I" } : Jvm.MethodName)) ∈ lw_all := lw_g (lw_at lw_m4 107 rfl) rfl
theorem q932 : (Jvm.Cond.privateMethod ({ cls := "TitheBarn", name := "digit", desc := "()I" } : Jvm.MethodName)) ∈ lw_tbl := lw_at lw_m4 108 rfl
theorem q933 : (Jvm.Cond.instanceMethod ({ cls := "TitheBarn", name := "digit", desc := "()I" } : Jvm.MethodName)) ∈ lw_all := lw_g (lw_at lw_m4 109 rfl) rfl
theorem q934 : (Jvm.Cond.code ({ cls := "TitheBarn", name := "digit", desc := "()I" } : Jvm.MethodName) prog_1_method_46_code (1 : Nat) (Option.some Jvm.ClassFile.FieldType.int)) ∈ lw_all := lw_g (lw_at lw_m4 110 rfl) rfl
theorem q943 : (Jvm.Cond.methodLink "TitheBarn" (306 : Nat) ({ cls := "TitheBarn$Fault", name := "<init>", desc := "()V" } : Jvm.MethodName)) ∈ lw_all := lw_g (lw_at lw_m4 119 rfl) rfl
theorem q949 : (Jvm.Cond.classLink "TitheBarn" (320 : Nat) "TitheBarn$Harvest") ∈ lw_all := lw_g (lw_at lw_m4 125 rfl) rfl
theorem q951 : (Jvm.Cond.methodLink "TitheBarn" (322 : Nat) ({ cls := "TitheBarn", name := "numberBehind", desc := "(C)I" } : Jvm.MethodName)) ∈ lw_all := lw_g (lw_at lw_m4 127 rfl) rfl
theorem q952 : (Jvm.Cond.privateMethod ({ cls := "TitheBarn", name := "numberBehind", desc := "(C)I" } : Jvm.MethodName)) ∈ lw_tbl := lw_at lw_m4 128 rfl
theorem q953 : (Jvm.Cond.instanceMethod ({ cls := "TitheBarn", name := "numberBehind", desc := "(C)I" } : Jvm.MethodName)) ∈ lw_all := lw_g (lw_at lw_m4 129 rfl) rfl
theorem q954 : (Jvm.Cond.code ({ cls := "TitheBarn", name := "numberBehind", desc := "(C)I" } : Jvm.MethodName) prog_1_method_49_code (2 : Nat) (Option.some Jvm.ClassFile.FieldType.int)) ∈ lw_all := lw_g (lw_at lw_m4 130 rfl) rfl
theorem q955 : (Jvm.Cond.methodLink "TitheBarn" (314 : Nat) ({ cls := "TitheBarn", name := "number", desc := "()I" } : Jvm.MethodName)) ∈ lw_all := lw_g (lw_at lw_m4 131 rfl) rfl
theorem q956 : (Jvm.Cond.privateMethod ({ cls := "TitheBarn", name := "number", desc := "()I" } : Jvm.MethodName)) ∈ lw_tbl := lw_at lw_m4 132 rfl
theorem q957 : (Jvm.Cond.instanceMethod ({ cls := "TitheBarn", name := "number", desc := "()I" } : Jvm.MethodName)) ∈ lw_all := lw_g (lw_at lw_m4 133 rfl) rfl
theorem q958 : (Jvm.Cond.code ({ cls := "TitheBarn", name := "number", desc := "()I" } : Jvm.MethodName) prog_1_method_48_code (3 : Nat) (Option.some Jvm.ClassFile.FieldType.int)) ∈ lw_all := lw_g (lw_at lw_m4 134 rfl) rfl
theorem q959 : (Jvm.Cond.methodLink "TitheBarn" (326 : Nat) ({ cls := "TitheBarn$Harvest", name := "<init>", desc := "(LTitheBarn;II)V" } : Jvm.MethodName)) ∈ lw_all := lw_g (lw_at lw_m4 135 rfl) rfl
theorem q1010 : (Jvm.Cond.classLink "TitheBarn" (329 : Nat) "TitheBarn$Cart") ∈ lw_all := lw_g (lw_at lw_m4 186 rfl) rfl
theorem q1012 : (Jvm.Cond.methodLink "TitheBarn" (331 : Nat) ({ cls := "TitheBarn", name := "digitBehind", desc := "(C)I" } : Jvm.MethodName)) ∈ lw_all := lw_g (lw_at lw_m4 188 rfl) rfl
theorem q1013 : (Jvm.Cond.privateMethod ({ cls := "TitheBarn", name := "digitBehind", desc := "(C)I" } : Jvm.MethodName)) ∈ lw_tbl := lw_at lw_m4 189 rfl
theorem q1014 : (Jvm.Cond.instanceMethod ({ cls := "TitheBarn", name := "digitBehind", desc := "(C)I" } : Jvm.MethodName)) ∈ lw_all := lw_g (lw_at lw_m4 190 rfl) rfl
theorem q1015 : (Jvm.Cond.code ({ cls := "TitheBarn", name := "digitBehind", desc := "(C)I" } : Jvm.MethodName) prog_1_method_47_code (2 : Nat) (Option.some Jvm.ClassFile.FieldType.int)) ∈ lw_all := lw_g (lw_at lw_m4 191 rfl) rfl
theorem q1016 : (Jvm.Cond.methodLink "TitheBarn" (334 : Nat) ({ cls := "TitheBarn$Cart", name := "<init>", desc := "(LTitheBarn;III)V" } : Jvm.MethodName)) ∈ lw_all := lw_g (lw_at lw_m4 192 rfl) rfl
theorem q1028 : (Jvm.Cond.classLink "TitheBarn" (337 : Nat) "TitheBarn$Thresh") ∈ lw_all := lw_g (lw_at lw_m4 204 rfl) rfl
theorem q1030 : (Jvm.Cond.methodLink "TitheBarn" (339 : Nat) ({ cls := "TitheBarn$Thresh", name := "<init>", desc := "(LTitheBarn;III)V" } : Jvm.MethodName)) ∈ lw_all := lw_g (lw_at lw_m4 206 rfl) rfl
theorem q1042 : (Jvm.Cond.methodLink "TitheBarn" (340 : Nat) ({ cls := "TitheBarn", name := "kindSign", desc := "()I" } : Jvm.MethodName)) ∈ lw_all := lw_g (lw_at lw_m4 218 rfl) rfl
theorem q1043 : (Jvm.Cond.privateMethod ({ cls := "TitheBarn", name := "kindSign", desc := "()I" } : Jvm.MethodName)) ∈ lw_tbl := lw_at lw_m4 219 rfl
theorem q1044 : (Jvm.Cond.instanceMethod ({ cls := "TitheBarn", name := "kindSign", desc := "()I" } : Jvm.MethodName)) ∈ lw_all := lw_g (lw_at lw_m4 220 rfl) rfl
theorem q1045 : (Jvm.Cond.code ({ cls := "TitheBarn", name := "kindSign", desc := "()I" } : Jvm.MethodName) prog_1_method_50_code (2 : Nat) (Option.some Jvm.ClassFile.FieldType.int)) ∈ lw_all := lw_g (lw_at lw_m4 221 rfl) rfl
theorem q1046 : (Jvm.Cond.methodLink "TitheBarn" (317 : Nat) ({ cls := "TitheBarn", name := "signOf", desc := "(I)C" } : Jvm.MethodName)) ∈ lw_all := lw_g (lw_at lw_m4 222 rfl) rfl
theorem q1047 : (Jvm.Cond.static ({ cls := "TitheBarn", name := "signOf", desc := "(I)C" } : Jvm.MethodName)) ∈ lw_all := lw_g (lw_at lw_m4 223 rfl) rfl
theorem q1048 : (Jvm.Cond.code ({ cls := "TitheBarn", name := "signOf", desc := "(I)C" } : Jvm.MethodName) prog_1_method_4_code (1 : Nat) (Option.some Jvm.ClassFile.FieldType.char)) ∈ lw_all := lw_g (lw_at lw_m4 224 rfl) rfl
theorem q1049 : (Jvm.Cond.classLink "TitheBarn" (343 : Nat) "TitheBarn$Sale") ∈ lw_all := lw_g (lw_at lw_m4 225 rfl) rfl
theorem q1051 : (Jvm.Cond.methodLink "TitheBarn" (345 : Nat) ({ cls := "TitheBarn$Sale", name := "<init>", desc := "(LTitheBarn;III)V" } : Jvm.MethodName)) ∈ lw_all := lw_g (lw_at lw_m4 227 rfl) rfl
theorem q1063 : (Jvm.Cond.methodLink "TitheBarn" (346 : Nat) ({ cls := "TitheBarn", name := "shortCommand", desc := "()LTitheBarn$Command;" } : Jvm.MethodName)) ∈ lw_all := lw_g (lw_at lw_m4 239 rfl) rfl
theorem q1064 : (Jvm.Cond.privateMethod ({ cls := "TitheBarn", name := "shortCommand", desc := "()LTitheBarn$Command;" } : Jvm.MethodName)) ∈ lw_tbl := lw_at lw_m5 0 rfl
theorem q1065 : (Jvm.Cond.instanceMethod ({ cls := "TitheBarn", name := "shortCommand", desc := "()LTitheBarn$Command;" } : Jvm.MethodName)) ∈ lw_all := lw_g (lw_at lw_m5 1 rfl) rfl
theorem q1066 : (Jvm.Cond.code ({ cls := "TitheBarn", name := "shortCommand", desc := "()LTitheBarn$Command;" } : Jvm.MethodName) prog_1_method_52_code (1 : Nat) (Option.some (Jvm.ClassFile.FieldType.object "TitheBarn$Command"))) ∈ lw_all := lw_g (lw_at lw_m5 2 rfl) rfl
theorem q1067 : (Jvm.Cond.classLink "TitheBarn" (350 : Nat) "TitheBarn$1Pass") ∈ lw_all := lw_g (lw_at lw_m5 3 rfl) rfl
theorem q1069 : (Jvm.Cond.methodLink "TitheBarn" (352 : Nat) ({ cls := "TitheBarn$1Pass", name := "<init>", desc := "(LTitheBarn;I)V" } : Jvm.MethodName)) ∈ lw_all := lw_g (lw_at lw_m5 5 rfl) rfl
theorem q1081 : (Jvm.Cond.classLink "TitheBarn" (355 : Nat) "TitheBarn$1Cat") ∈ lw_all := lw_g (lw_at lw_m5 17 rfl) rfl
theorem q1083 : (Jvm.Cond.methodLink "TitheBarn" (357 : Nat) ({ cls := "TitheBarn$1Cat", name := "<init>", desc := "(LTitheBarn;I)V" } : Jvm.MethodName)) ∈ lw_all := lw_g (lw_at lw_m5 19 rfl) rfl
theorem q1095 : (Jvm.Cond.classLink "TitheBarn" (358 : Nat) "TitheBarn$1Gap") ∈ lw_all := lw_g (lw_at lw_m5 31 rfl) rfl
theorem q1097 : (Jvm.Cond.methodLink "TitheBarn" (360 : Nat) ({ cls := "TitheBarn$1Gap", name := "<init>", desc := "(LTitheBarn;I)V" } : Jvm.MethodName)) ∈ lw_all := lw_g (lw_at lw_m5 33 rfl) rfl
theorem q1109 : (Jvm.Cond.methodLink "TitheBarn" (367 : Nat) ({ cls := "java/lang/StringBuilder", name := "setLength", desc := "(I)V" } : Jvm.MethodName)) ∈ lw_all := lw_g (lw_at lw_m5 45 rfl) rfl
theorem q1129 : (Jvm.Cond.methodLink "TitheBarn" (377 : Nat) ({ cls := "TitheBarn", name := "doScript", desc := "()I" } : Jvm.MethodName)) ∈ lw_all := lw_g (lw_at lw_m5 65 rfl) rfl
theorem q1130 : (Jvm.Cond.privateMethod ({ cls := "TitheBarn", name := "doScript", desc := "()I" } : Jvm.MethodName)) ∈ lw_tbl := lw_at lw_m5 66 rfl
theorem q1131 : (Jvm.Cond.instanceMethod ({ cls := "TitheBarn", name := "doScript", desc := "()I" } : Jvm.MethodName)) ∈ lw_all := lw_g (lw_at lw_m5 67 rfl) rfl
theorem q1132 : (Jvm.Cond.codeWith ({ cls := "TitheBarn", name := "doScript", desc := "()I" } : Jvm.MethodName) prog_1_method_54_code (3 : Nat) (Option.some Jvm.ClassFile.FieldType.int) [((10 : Nat), (20 : Nat), (23 : Nat), (3 : Nat)), ((10 : Nat), (20 : Nat), (35 : Nat), (9 : Nat))]) ∈ lw_all := lw_g (lw_at lw_m5 68 rfl) rfl
theorem q1133 : (Jvm.Cond.methodLink "TitheBarn" (370 : Nat) ({ cls := "TitheBarn$Command", name := "done", desc := "()I" } : Jvm.MethodName)) ∈ lw_all := lw_g (lw_at lw_m5 69 rfl) rfl
theorem q1165 : (Jvm.Cond.instanceMethod ({ cls := "TitheBarn", name := "reason", desc := "(II)I" } : Jvm.MethodName)) ∈ lw_all := lw_g (lw_at lw_m5 101 rfl) rfl
theorem q1166 : (Jvm.Cond.selects "TitheBarn" ({ cls := "TitheBarn", name := "reason", desc := "(II)I" } : Jvm.MethodName) ({ cls := "TitheBarn", name := "reason", desc := "(II)I" } : Jvm.MethodName)) ∈ lw_all := lw_g (lw_at lw_m5 102 rfl) rfl
theorem q1167 : (Jvm.Cond.code ({ cls := "TitheBarn", name := "reason", desc := "(II)I" } : Jvm.MethodName) prog_1_method_56_code (4 : Nat) (Option.some Jvm.ClassFile.FieldType.int)) ∈ lw_all := lw_g (lw_at lw_m5 103 rfl) rfl
theorem q1168 : (Jvm.Cond.methodLink "TitheBarn" (380 : Nat) ({ cls := "TitheBarn$Refused", name := "behind", desc := "(I)LTitheBarn$Refused;" } : Jvm.MethodName)) ∈ lw_all := lw_g (lw_at lw_m5 104 rfl) rfl
theorem q1182 : (Jvm.Cond.instanceMethod ({ cls := "TitheBarn", name := "parishOf", desc := "(II)I" } : Jvm.MethodName)) ∈ lw_all := lw_g (lw_at lw_m5 118 rfl) rfl
theorem q1183 : (Jvm.Cond.selects "TitheBarn" ({ cls := "TitheBarn", name := "parishOf", desc := "(II)I" } : Jvm.MethodName) ({ cls := "TitheBarn", name := "parishOf", desc := "(II)I" } : Jvm.MethodName)) ∈ lw_all := lw_g (lw_at lw_m5 119 rfl) rfl
theorem q1184 : (Jvm.Cond.code ({ cls := "TitheBarn", name := "parishOf", desc := "(II)I" } : Jvm.MethodName) prog_1_method_58_code (4 : Nat) (Option.some Jvm.ClassFile.FieldType.int)) ∈ lw_all := lw_g (lw_at lw_m5 120 rfl) rfl
theorem q1185 : (Jvm.Cond.methodLink "TitheBarn" (411 : Nat) ({ cls := "TitheBarn", name := "inBays", desc := "(I)I" } : Jvm.MethodName)) ∈ lw_all := lw_g (lw_at lw_m5 121 rfl) rfl
theorem q1186 : (Jvm.Cond.privateMethod ({ cls := "TitheBarn", name := "inBays", desc := "(I)I" } : Jvm.MethodName)) ∈ lw_tbl := lw_at lw_m5 122 rfl
theorem q1187 : (Jvm.Cond.instanceMethod ({ cls := "TitheBarn", name := "inBays", desc := "(I)I" } : Jvm.MethodName)) ∈ lw_all := lw_g (lw_at lw_m5 123 rfl) rfl
theorem q1188 : (Jvm.Cond.code ({ cls := "TitheBarn", name := "inBays", desc := "(I)I" } : Jvm.MethodName) prog_1_method_57_code (9 : Nat) (Option.some Jvm.ClassFile.FieldType.int)) ∈ lw_all := lw_g (lw_at lw_m5 124 rfl) rfl
theorem q1189 : (Jvm.Cond.methodLink "TitheBarn" (390 : Nat) ({ cls := "TitheBarn$Bay", name := "iterator", desc := "()Ljava/util/Iterator;" } : Jvm.MethodName)) ∈ lw_all := lw_g (lw_at lw_m5 125 rfl) rfl
theorem q1206 : (Jvm.Cond.interfaceEntry "TitheBarn" (394 : Nat)) ∈ lw_tbl := lw_at lw_m5 142 rfl
theorem q1207 : (Jvm.Cond.methodLink "TitheBarn" (394 : Nat) ({ cls := "java/util/Iterator", name := "hasNext", desc := "()Z" } : Jvm.MethodName)) ∈ lw_all := lw_g (lw_at lw_m5 143 rfl) rfl
theorem q1216 : (Jvm.Cond.interfaceEntry "TitheBarn" (399 : Nat)) ∈ lw_tbl := lw_at lw_m5 152 rfl
theorem q1217 : (Jvm.Cond.methodLink "TitheBarn" (399 : Nat) ({ cls := "java/util/Iterator", name := "next", desc := "()Ljava/lang/Object;" } : Jvm.MethodName)) ∈ lw_all := lw_g (lw_at lw_m5 153 rfl) rfl
theorem q1253 : (Jvm.Cond.classLink "TitheBarn" (180 : Nat) "TitheBarn$Lot") ∈ lw_all := lw_g (lw_at lw_m5 189 rfl) rfl
theorem q1254 : (Jvm.Cond.methodLink "TitheBarn" (414 : Nat) ({ cls := "TitheBarn", name := "rankOf", desc := "(I)I" } : Jvm.MethodName)) ∈ lw_all := lw_g (lw_at lw_m5 190 rfl) rfl
theorem q1255 : (Jvm.Cond.privateMethod ({ cls := "TitheBarn", name := "rankOf", desc := "(I)I" } : Jvm.MethodName)) ∈ lw_tbl := lw_at lw_m5 191 rfl
theorem q1256 : (Jvm.Cond.instanceMethod ({ cls := "TitheBarn", name := "rankOf", desc := "(I)I" } : Jvm.MethodName)) ∈ lw_all := lw_g (lw_at lw_m5 192 rfl) rfl
theorem q1257 : (Jvm.Cond.code ({ cls := "TitheBarn", name := "rankOf", desc := "(I)I" } : Jvm.MethodName) prog_1_method_70_code (4 : Nat) (Option.some Jvm.ClassFile.FieldType.int)) ∈ lw_all := lw_g (lw_at lw_m5 193 rfl) rfl
theorem q1258 : (Jvm.Cond.methodLink "TitheBarn" (444 : Nat) ({ cls := "TitheBarn", name := "isAhead", desc := "(II)Z" } : Jvm.MethodName)) ∈ lw_all := lw_g (lw_at lw_m5 194 rfl) rfl
theorem q1259 : (Jvm.Cond.privateMethod ({ cls := "TitheBarn", name := "isAhead", desc := "(II)Z" } : Jvm.MethodName)) ∈ lw_tbl := lw_at lw_m5 195 rfl
theorem q1260 : (Jvm.Cond.instanceMethod ({ cls := "TitheBarn", name := "isAhead", desc := "(II)Z" } : Jvm.MethodName)) ∈ lw_all := lw_g (lw_at lw_m5 196 rfl) rfl
theorem q1261 : (Jvm.Cond.code ({ cls := "TitheBarn", name := "isAhead", desc := "(II)Z" } : Jvm.MethodName) prog_1_method_69_code (5 : Nat) (Option.some Jvm.ClassFile.FieldType.boolean)) ∈ lw_all := lw_g (lw_at lw_m5 197 rfl) rfl
theorem q1263 : (Jvm.Cond.instanceMethod ({ cls := "TitheBarn", name := "bayOf", desc := "(II)I" } : Jvm.MethodName)) ∈ lw_all := lw_g (lw_at lw_m5 199 rfl) rfl
theorem q1264 : (Jvm.Cond.selects "TitheBarn" ({ cls := "TitheBarn", name := "bayOf", desc := "(II)I" } : Jvm.MethodName) ({ cls := "TitheBarn", name := "bayOf", desc := "(II)I" } : Jvm.MethodName)) ∈ lw_all := lw_g (lw_at lw_m5 200 rfl) rfl
theorem q1265 : (Jvm.Cond.code ({ cls := "TitheBarn", name := "bayOf", desc := "(II)I" } : Jvm.MethodName) prog_1_method_59_code (7 : Nat) (Option.some Jvm.ClassFile.FieldType.int)) ∈ lw_all := lw_g (lw_at lw_m5 201 rfl) rfl
theorem q1266 : (Jvm.Cond.methodLink "TitheBarn" (417 : Nat) ({ cls := "TitheBarn$State", name := "pintsIn", desc := "(LTitheBarn$Bay;)I" } : Jvm.MethodName)) ∈ lw_all := lw_g (lw_at lw_m5 202 rfl) rfl
theorem q1277 : (Jvm.Cond.instanceMethod ({ cls := "TitheBarn", name := "lotOf", desc := "(III)I" } : Jvm.MethodName)) ∈ lw_all := lw_g (lw_at lw_m5 213 rfl) rfl
theorem q1278 : (Jvm.Cond.selects "TitheBarn" ({ cls := "TitheBarn", name := "lotOf", desc := "(III)I" } : Jvm.MethodName) ({ cls := "TitheBarn", name := "lotOf", desc := "(III)I" } : Jvm.MethodName)) ∈ lw_all := lw_g (lw_at lw_m5 214 rfl) rfl
theorem q1279 : (Jvm.Cond.code ({ cls := "TitheBarn", name := "lotOf", desc := "(III)I" } : Jvm.MethodName) prog_1_method_60_code (5 : Nat) (Option.some Jvm.ClassFile.FieldType.int)) ∈ lw_all := lw_g (lw_at lw_m5 215 rfl) rfl
theorem q1281 : (Jvm.Cond.instanceMethod ({ cls := "TitheBarn", name := "floorOf", desc := "(II)I" } : Jvm.MethodName)) ∈ lw_all := lw_g (lw_at lw_m5 217 rfl) rfl
theorem q1282 : (Jvm.Cond.selects "TitheBarn" ({ cls := "TitheBarn", name := "floorOf", desc := "(II)I" } : Jvm.MethodName) ({ cls := "TitheBarn", name := "floorOf", desc := "(II)I" } : Jvm.MethodName)) ∈ lw_all := lw_g (lw_at lw_m5 218 rfl) rfl
theorem q1283 : (Jvm.Cond.code ({ cls := "TitheBarn", name := "floorOf", desc := "(II)I" } : Jvm.MethodName) prog_1_method_61_code (4 : Nat) (Option.some Jvm.ClassFile.FieldType.int)) ∈ lw_all := lw_g (lw_at lw_m5 219 rfl) rfl
theorem q1285 : (Jvm.Cond.instanceMethod ({ cls := "TitheBarn", name := "binOf", desc := "(II)I" } : Jvm.MethodName)) ∈ lw_all := lw_g (lw_at lw_m5 221 rfl) rfl
theorem q1286 : (Jvm.Cond.selects "TitheBarn" ({ cls := "TitheBarn", name := "binOf", desc := "(II)I" } : Jvm.MethodName) ({ cls := "TitheBarn", name := "binOf", desc := "(II)I" } : Jvm.MethodName)) ∈ lw_all := lw_g (lw_at lw_m5 222 rfl) rfl
theorem q1287 : (Jvm.Cond.code ({ cls := "TitheBarn", name := "binOf", desc := "(II)I" } : Jvm.MethodName) prog_1_method_62_code (4 : Nat) (Option.some Jvm.ClassFile.FieldType.int)) ∈ lw_all := lw_g (lw_at lw_m5 223 rfl) rfl
theorem q1289 : (Jvm.Cond.instanceMethod ({ cls := "TitheBarn", name := "placeOf", desc := "(II)I" } : Jvm.MethodName)) ∈ lw_all := lw_g (lw_at lw_m5 225 rfl) rfl
theorem q1290 : (Jvm.Cond.selects "TitheBarn" ({ cls := "TitheBarn", name := "placeOf", desc := "(II)I" } : Jvm.MethodName) ({ cls := "TitheBarn", name := "placeOf", desc := "(II)I" } : Jvm.MethodName)) ∈ lw_all := lw_g (lw_at lw_m5 226 rfl) rfl
theorem q1291 : (Jvm.Cond.code ({ cls := "TitheBarn", name := "placeOf", desc := "(II)I" } : Jvm.MethodName) prog_1_method_63_code (4 : Nat) (Option.some Jvm.ClassFile.FieldType.int)) ∈ lw_all := lw_g (lw_at lw_m5 227 rfl) rfl
theorem q1293 : (Jvm.Cond.instanceMethod ({ cls := "TitheBarn", name := "tithe", desc := "(II)I" } : Jvm.MethodName)) ∈ lw_all := lw_g (lw_at lw_m5 229 rfl) rfl
theorem q1294 : (Jvm.Cond.selects "TitheBarn" ({ cls := "TitheBarn", name := "tithe", desc := "(II)I" } : Jvm.MethodName) ({ cls := "TitheBarn", name := "tithe", desc := "(II)I" } : Jvm.MethodName)) ∈ lw_all := lw_g (lw_at lw_m5 230 rfl) rfl
theorem q1295 : (Jvm.Cond.code ({ cls := "TitheBarn", name := "tithe", desc := "(II)I" } : Jvm.MethodName) prog_1_method_64_code (3 : Nat) (Option.some Jvm.ClassFile.FieldType.int)) ∈ lw_all := lw_g (lw_at lw_m5 231 rfl) rfl
theorem q1297 : (Jvm.Cond.instanceMethod ({ cls := "TitheBarn", name := "titheAgain", desc := "(II)I" } : Jvm.MethodName)) ∈ lw_all := lw_g (lw_at lw_m5 233 rfl) rfl
theorem q1298 : (Jvm.Cond.selects "TitheBarn" ({ cls := "TitheBarn", name := "titheAgain", desc := "(II)I" } : Jvm.MethodName) ({ cls := "TitheBarn", name := "titheAgain", desc := "(II)I" } : Jvm.MethodName)) ∈ lw_all := lw_g (lw_at lw_m5 234 rfl) rfl
theorem q1299 : (Jvm.Cond.code ({ cls := "TitheBarn", name := "titheAgain", desc := "(II)I" } : Jvm.MethodName) prog_1_method_65_code (6 : Nat) (Option.some Jvm.ClassFile.FieldType.int)) ∈ lw_all := lw_g (lw_at lw_m5 235 rfl) rfl
theorem q1301 : (Jvm.Cond.instanceMethod ({ cls := "TitheBarn", name := "lasts", desc := "(I)I" } : Jvm.MethodName)) ∈ lw_all := lw_g (lw_at lw_m5 237 rfl) rfl
theorem q1302 : (Jvm.Cond.selects "TitheBarn" ({ cls := "TitheBarn", name := "lasts", desc := "(I)I" } : Jvm.MethodName) ({ cls := "TitheBarn", name := "lasts", desc := "(I)I" } : Jvm.MethodName)) ∈ lw_all := lw_g (lw_at lw_m5 238 rfl) rfl
theorem q1303 : (Jvm.Cond.code ({ cls := "TitheBarn", name := "lasts", desc := "(I)I" } : Jvm.MethodName) prog_1_method_66_code (4 : Nat) (Option.some Jvm.ClassFile.FieldType.int)) ∈ lw_all := lw_g (lw_at lw_m5 239 rfl) rfl
theorem q1305 : (Jvm.Cond.instanceMethod ({ cls := "TitheBarn", name := "bestCat", desc := "(I)I" } : Jvm.MethodName)) ∈ lw_all := lw_g (lw_at lw_m6 1 rfl) rfl
theorem q1306 : (Jvm.Cond.selects "TitheBarn" ({ cls := "TitheBarn", name := "bestCat", desc := "(I)I" } : Jvm.MethodName) ({ cls := "TitheBarn", name := "bestCat", desc := "(I)I" } : Jvm.MethodName)) ∈ lw_all := lw_g (lw_at lw_m6 2 rfl) rfl
theorem q1307 : (Jvm.Cond.code ({ cls := "TitheBarn", name := "bestCat", desc := "(I)I" } : Jvm.MethodName) prog_1_method_68_code (6 : Nat) (Option.some Jvm.ClassFile.FieldType.int)) ∈ lw_all := lw_g (lw_at lw_m6 3 rfl) rfl
theorem q1308 : (Jvm.Cond.methodLink "TitheBarn" (433 : Nat) ({ cls := "TitheBarn", name := "eatenBy", desc := "(I)I" } : Jvm.MethodName)) ∈ lw_all := lw_g (lw_at lw_m6 4 rfl) rfl
theorem q1309 : (Jvm.Cond.privateMethod ({ cls := "TitheBarn", name := "eatenBy", desc := "(I)I" } : Jvm.MethodName)) ∈ lw_tbl := lw_at lw_m6 5 rfl
theorem q1310 : (Jvm.Cond.instanceMethod ({ cls := "TitheBarn", name := "eatenBy", desc := "(I)I" } : Jvm.MethodName)) ∈ lw_all := lw_g (lw_at lw_m6 6 rfl) rfl
theorem q1311 : (Jvm.Cond.code ({ cls := "TitheBarn", name := "eatenBy", desc := "(I)I" } : Jvm.MethodName) prog_1_method_67_code (4 : Nat) (Option.some Jvm.ClassFile.FieldType.int)) ∈ lw_all := lw_g (lw_at lw_m6 7 rfl) rfl
theorem q1312 : (Jvm.Cond.methodLink "TitheBarn" (436 : Nat) ({ cls := "java/lang/Math", name := "min", desc := "(II)I" } : Jvm.MethodName)) ∈ lw_all := lw_g (lw_at lw_m6 8 rfl) rfl
theorem q1313 : (Jvm.Cond.methodLink "TitheBarn" (441 : Nat) ({ cls := "java/lang/Math", name := "max", desc := "(II)I" } : Jvm.MethodName)) ∈ lw_all := lw_g (lw_at lw_m6 9 rfl) rfl
theorem q1315 : (Jvm.Cond.instanceMethod ({ cls := "TitheBarn", name := "ranked", desc := "(I)I" } : Jvm.MethodName)) ∈ lw_all := lw_g (lw_at lw_m6 11 rfl) rfl
theorem q1316 : (Jvm.Cond.selects "TitheBarn" ({ cls := "TitheBarn", name := "ranked", desc := "(I)I" } : Jvm.MethodName) ({ cls := "TitheBarn", name := "ranked", desc := "(I)I" } : Jvm.MethodName)) ∈ lw_all := lw_g (lw_at lw_m6 12 rfl) rfl
theorem q1317 : (Jvm.Cond.code ({ cls := "TitheBarn", name := "ranked", desc := "(I)I" } : Jvm.MethodName) prog_1_method_71_code (3 : Nat) (Option.some Jvm.ClassFile.FieldType.int)) ∈ lw_all := lw_g (lw_at lw_m6 13 rfl) rfl
theorem q1319 : (Jvm.Cond.instanceMethod ({ cls := "TitheBarn", name := "grain", desc := "(I)I" } : Jvm.MethodName)) ∈ lw_all := lw_g (lw_at lw_m6 15 rfl) rfl
theorem q1320 : (Jvm.Cond.selects "TitheBarn" ({ cls := "TitheBarn", name := "grain", desc := "(I)I" } : Jvm.MethodName) ({ cls := "TitheBarn", name := "grain", desc := "(I)I" } : Jvm.MethodName)) ∈ lw_all := lw_g (lw_at lw_m6 16 rfl) rfl
theorem q1321 : (Jvm.Cond.code ({ cls := "TitheBarn", name := "grain", desc := "(I)I" } : Jvm.MethodName) prog_1_method_78_code (2 : Nat) (Option.some Jvm.ClassFile.FieldType.int)) ∈ lw_all := lw_g (lw_at lw_m6 17 rfl) rfl
theorem q1322 : (Jvm.Cond.methodLink "TitheBarn" (460 : Nat) ({ cls := "TitheBarn", name := "cartedPints", desc := "()I" } : Jvm.MethodName)) ∈ lw_all := lw_g (lw_at lw_m6 18 rfl) rfl
theorem q1323 : (Jvm.Cond.privateMethod ({ cls := "TitheBarn", name := "cartedPints", desc := "()I" } : Jvm.MethodName)) ∈ lw_tbl := lw_at lw_m6 19 rfl
theorem q1324 : (Jvm.Cond.instanceMethod ({ cls := "TitheBarn", name := "cartedPints", desc := "()I" } : Jvm.MethodName)) ∈ lw_all := lw_g (lw_at lw_m6 20 rfl) rfl
theorem q1325 : (Jvm.Cond.code ({ cls := "TitheBarn", name := "cartedPints", desc := "()I" } : Jvm.MethodName) prog_1_method_77_code (3 : Nat) (Option.some Jvm.ClassFile.FieldType.int)) ∈ lw_all := lw_g (lw_at lw_m6 21 rfl) rfl
theorem q1326 : (Jvm.Cond.methodLink "TitheBarn" (448 : Nat) ({ cls := "TitheBarn", name := "pintsOf", desc := "(I)I" } : Jvm.MethodName)) ∈ lw_all := lw_g (lw_at lw_m6 22 rfl) rfl
theorem q1327 : (Jvm.Cond.methodLink "TitheBarn" (463 : Nat) ({ cls := "TitheBarn", name := "inAllBays", desc := "()I" } : Jvm.MethodName)) ∈ lw_all := lw_g (lw_at lw_m6 23 rfl) rfl
theorem q1328 : (Jvm.Cond.privateMethod ({ cls := "TitheBarn", name := "inAllBays", desc := "()I" } : Jvm.MethodName)) ∈ lw_tbl := lw_at lw_m6 24 rfl
theorem q1329 : (Jvm.Cond.instanceMethod ({ cls := "TitheBarn", name := "inAllBays", desc := "()I" } : Jvm.MethodName)) ∈ lw_all := lw_g (lw_at lw_m6 25 rfl) rfl
theorem q1330 : (Jvm.Cond.code ({ cls := "TitheBarn", name := "inAllBays", desc := "()I" } : Jvm.MethodName) prog_1_method_73_code (6 : Nat) (Option.some Jvm.ClassFile.FieldType.int)) ∈ lw_all := lw_g (lw_at lw_m6 26 rfl) rfl
theorem q1331 : (Jvm.Cond.methodLink "TitheBarn" (466 : Nat) ({ cls := "TitheBarn", name := "onFloors", desc := "()I" } : Jvm.MethodName)) ∈ lw_all := lw_g (lw_at lw_m6 27 rfl) rfl
theorem q1332 : (Jvm.Cond.privateMethod ({ cls := "TitheBarn", name := "onFloors", desc := "()I" } : Jvm.MethodName)) ∈ lw_tbl := lw_at lw_m6 28 rfl
theorem q1333 : (Jvm.Cond.instanceMethod ({ cls := "TitheBarn", name := "onFloors", desc := "()I" } : Jvm.MethodName)) ∈ lw_all := lw_g (lw_at lw_m6 29 rfl) rfl
theorem q1334 : (Jvm.Cond.code ({ cls := "TitheBarn", name := "onFloors", desc := "()I" } : Jvm.MethodName) prog_1_method_72_code (6 : Nat) (Option.some Jvm.ClassFile.FieldType.int)) ∈ lw_all := lw_g (lw_at lw_m6 30 rfl) rfl
theorem q1335 : (Jvm.Cond.methodLink "TitheBarn" (469 : Nat) ({ cls := "TitheBarn", name := "overBins", desc := "(I)I" } : Jvm.MethodName)) ∈ lw_all := lw_g (lw_at lw_m6 31 rfl) rfl
theorem q1336 : (Jvm.Cond.privateMethod ({ cls := "TitheBarn", name := "overBins", desc := "(I)I" } : Jvm.MethodName)) ∈ lw_tbl := lw_at lw_m6 32 rfl
theorem q1337 : (Jvm.Cond.instanceMethod ({ cls := "TitheBarn", name := "overBins", desc := "(I)I" } : Jvm.MethodName)) ∈ lw_all := lw_g (lw_at lw_m6 33 rfl) rfl
theorem q1338 : (Jvm.Cond.code ({ cls := "TitheBarn", name := "overBins", desc := "(I)I" } : Jvm.MethodName) prog_1_method_74_code (4 : Nat) (Option.some Jvm.ClassFile.FieldType.int)) ∈ lw_all := lw_g (lw_at lw_m6 34 rfl) rfl
theorem q1339 : (Jvm.Cond.methodLink "TitheBarn" (451 : Nat) ({ cls := "TitheBarn", name := "binOf", desc := "(II)I" } : Jvm.MethodName)) ∈ lw_all := lw_g (lw_at lw_m6 35 rfl) rfl
theorem q1341 : (Jvm.Cond.instanceMethod ({ cls := "TitheBarn", name := "grainAgain", desc := "()I" } : Jvm.MethodName)) ∈ lw_all := lw_g (lw_at lw_m6 37 rfl) rfl
theorem q1342 : (Jvm.Cond.selects "TitheBarn" ({ cls := "TitheBarn", name := "grainAgain", desc := "()I" } : Jvm.MethodName) ({ cls := "TitheBarn", name := "grainAgain", desc := "()I" } : Jvm.MethodName)) ∈ lw_all := lw_g (lw_at lw_m6 38 rfl) rfl
theorem q1343 : (Jvm.Cond.code ({ cls := "TitheBarn", name := "grainAgain", desc := "()I" } : Jvm.MethodName) prog_1_method_79_code (1 : Nat) (Option.some Jvm.ClassFile.FieldType.int)) ∈ lw_all := lw_g (lw_at lw_m6 39 rfl) rfl
theorem q1345 : (Jvm.Cond.instanceMethod ({ cls := "TitheBarn", name := "share", desc := "(I)F" } : Jvm.MethodName)) ∈ lw_all := lw_g (lw_at lw_m6 41 rfl) rfl
theorem q1346 : (Jvm.Cond.selects "TitheBarn" ({ cls := "TitheBarn", name := "share", desc := "(I)F" } : Jvm.MethodName) ({ cls := "TitheBarn", name := "share", desc := "(I)F" } : Jvm.MethodName)) ∈ lw_all := lw_g (lw_at lw_m6 42 rfl) rfl
theorem q1347 : (Jvm.Cond.code ({ cls := "TitheBarn", name := "share", desc := "(I)F" } : Jvm.MethodName) prog_1_method_80_code (3 : Nat) (Option.some Jvm.ClassFile.FieldType.float)) ∈ lw_all := lw_g (lw_at lw_m6 43 rfl) rfl
theorem q1348 : (Jvm.Cond.methodLink "TitheBarn" (472 : Nat) ({ cls := "TitheBarn", name := "overParishes", desc := "(I)I" } : Jvm.MethodName)) ∈ lw_all := lw_g (lw_at lw_m6 44 rfl) rfl
theorem q1349 : (Jvm.Cond.privateMethod ({ cls := "TitheBarn", name := "overParishes", desc := "(I)I" } : Jvm.MethodName)) ∈ lw_tbl := lw_at lw_m6 45 rfl
theorem q1350 : (Jvm.Cond.instanceMethod ({ cls := "TitheBarn", name := "overParishes", desc := "(I)I" } : Jvm.MethodName)) ∈ lw_all := lw_g (lw_at lw_m6 46 rfl) rfl
theorem q1351 : (Jvm.Cond.code ({ cls := "TitheBarn", name := "overParishes", desc := "(I)I" } : Jvm.MethodName) prog_1_method_75_code (4 : Nat) (Option.some Jvm.ClassFile.FieldType.int)) ∈ lw_all := lw_g (lw_at lw_m6 47 rfl) rfl
theorem q1352 : (Jvm.Cond.methodLink "TitheBarn" (454 : Nat) ({ cls := "TitheBarn", name := "parishOf", desc := "(II)I" } : Jvm.MethodName)) ∈ lw_all := lw_g (lw_at lw_m6 48 rfl) rfl
theorem q1354 : (Jvm.Cond.instanceMethod ({ cls := "TitheBarn", name := "meanRats", desc := "()D" } : Jvm.MethodName)) ∈ lw_all := lw_g (lw_at lw_m6 50 rfl) rfl
theorem q1355 : (Jvm.Cond.selects "TitheBarn" ({ cls := "TitheBarn", name := "meanRats", desc := "()D" } : Jvm.MethodName) ({ cls := "TitheBarn", name := "meanRats", desc := "()D" } : Jvm.MethodName)) ∈ lw_all := lw_g (lw_at lw_m6 51 rfl) rfl
theorem q1356 : (Jvm.Cond.code ({ cls := "TitheBarn", name := "meanRats", desc := "()D" } : Jvm.MethodName) prog_1_method_81_code (1 : Nat) (Option.some Jvm.ClassFile.FieldType.double)) ∈ lw_all := lw_g (lw_at lw_m6 52 rfl) rfl
theorem q1357 : (Jvm.Cond.methodLink "TitheBarn" (475 : Nat) ({ cls := "TitheBarn", name := "overPlaces", desc := "(I)I" } : Jvm.MethodName)) ∈ lw_all := lw_g (lw_at lw_m6 53 rfl) rfl
theorem q1358 : (Jvm.Cond.privateMethod ({ cls := "TitheBarn", name := "overPlaces", desc := "(I)I" } : Jvm.MethodName)) ∈ lw_tbl := lw_at lw_m6 54 rfl
theorem q1359 : (Jvm.Cond.instanceMethod ({ cls := "TitheBarn", name := "overPlaces", desc := "(I)I" } : Jvm.MethodName)) ∈ lw_all := lw_g (lw_at lw_m6 55 rfl) rfl
theorem q1360 : (Jvm.Cond.code ({ cls := "TitheBarn", name := "overPlaces", desc := "(I)I" } : Jvm.MethodName) prog_1_method_76_code (4 : Nat) (Option.some Jvm.ClassFile.FieldType.int)) ∈ lw_all := lw_g (lw_at lw_m6 56 rfl) rfl
theorem q1361 : (Jvm.Cond.methodLink "TitheBarn" (457 : Nat) ({ cls := "TitheBarn", name := "placeOf", desc := "(II)I" } : Jvm.MethodName)) ∈ lw_all := lw_g (lw_at lw_m6 57 rfl) rfl
theorem q1362 : (Jvm.Cond.constantDouble "TitheBarn" (478 : Nat) (4619567317775286272 : UInt64)) ∈ lw_all := lw_g (lw_at lw_m6 58 rfl) rfl
theorem q1364 : (Jvm.Cond.instanceMethod ({ cls := "TitheBarn", name := "describe", desc := "(I)I" } : Jvm.MethodName)) ∈ lw_all := lw_g (lw_at lw_m6 60 rfl) rfl
theorem q1365 : (Jvm.Cond.selects "TitheBarn" ({ cls := "TitheBarn", name := "describe", desc := "(I)I" } : Jvm.MethodName) ({ cls := "TitheBarn", name := "describe", desc := "(I)I" } : Jvm.MethodName)) ∈ lw_all := lw_g (lw_at lw_m6 61 rfl) rfl
theorem q1366 : (Jvm.Cond.code ({ cls := "TitheBarn", name := "describe", desc := "(I)I" } : Jvm.MethodName) prog_1_method_82_code (4 : Nat) (Option.some Jvm.ClassFile.FieldType.int)) ∈ lw_all := lw_g (lw_at lw_m6 62 rfl) rfl
theorem q1367 : (Jvm.Cond.methodLink "TitheBarn" (480 : Nat) ({ cls := "java/lang/StringBuilder", name := "append", desc := "(I)Ljava/lang/StringBuilder;" } : Jvm.MethodName)) ∈ lw_all := lw_g (lw_at lw_m6 63 rfl) rfl
theorem q1402 : (Jvm.Cond.instanceMethod ({ cls := "TitheBarn", name := "written", desc := "(I)I" } : Jvm.MethodName)) ∈ lw_all := lw_g (lw_at lw_m6 98 rfl) rfl
theorem q1403 : (Jvm.Cond.selects "TitheBarn" ({ cls := "TitheBarn", name := "written", desc := "(I)I" } : Jvm.MethodName) ({ cls := "TitheBarn", name := "written", desc := "(I)I" } : Jvm.MethodName)) ∈ lw_all := lw_g (lw_at lw_m6 99 rfl) rfl
theorem q1404 : (Jvm.Cond.code ({ cls := "TitheBarn", name := "written", desc := "(I)I" } : Jvm.MethodName) prog_1_method_83_code (2 : Nat) (Option.some Jvm.ClassFile.FieldType.int)) ∈ lw_all := lw_g (lw_at lw_m6 100 rfl) rfl
theorem q1406 : (Jvm.Cond.instanceMethod ({ cls := "TitheBarn", name := "account", desc := "(I)I" } : Jvm.MethodName)) ∈ lw_all := lw_g (lw_at lw_m6 102 rfl) rfl
theorem q1407 : (Jvm.Cond.selects "TitheBarn" ({ cls := "TitheBarn", name := "account", desc := "(I)I" } : Jvm.MethodName) ({ cls := "TitheBarn", name := "account", desc := "(I)I" } : Jvm.MethodName)) ∈ lw_all := lw_g (lw_at lw_m6 103 rfl) rfl
theorem q1408 : (Jvm.Cond.code ({ cls := "TitheBarn", name := "account", desc := "(I)I" } : Jvm.MethodName) prog_1_method_84_code (2 : Nat) (Option.some Jvm.ClassFile.FieldType.int)) ∈ lw_all := lw_g (lw_at lw_m6 104 rfl) rfl
theorem q1410 : (Jvm.Cond.instanceMethod ({ cls := "TitheBarn", name := "undo", desc := "()I" } : Jvm.MethodName)) ∈ lw_all := lw_g (lw_at lw_m6 106 rfl) rfl
theorem q1411 : (Jvm.Cond.selects "TitheBarn" ({ cls := "TitheBarn", name := "undo", desc := "()I" } : Jvm.MethodName) ({ cls := "TitheBarn", name := "undo", desc := "()I" } : Jvm.MethodName)) ∈ lw_all := lw_g (lw_at lw_m6 107 rfl) rfl
theorem q1412 : (Jvm.Cond.code ({ cls := "TitheBarn", name := "undo", desc := "()I" } : Jvm.MethodName) prog_1_method_85_code (1 : Nat) (Option.some Jvm.ClassFile.FieldType.int)) ∈ lw_all := lw_g (lw_at lw_m6 108 rfl) rfl
theorem q1414 : (Jvm.Cond.instanceMethod ({ cls := "TitheBarn", name := "save", desc := "()I" } : Jvm.MethodName)) ∈ lw_all := lw_g (lw_at lw_m6 110 rfl) rfl
theorem q1415 : (Jvm.Cond.selects "TitheBarn" ({ cls := "TitheBarn", name := "save", desc := "()I" } : Jvm.MethodName) ({ cls := "TitheBarn", name := "save", desc := "()I" } : Jvm.MethodName)) ∈ lw_all := lw_g (lw_at lw_m6 111 rfl) rfl
theorem q1416 : (Jvm.Cond.code ({ cls := "TitheBarn", name := "save", desc := "()I" } : Jvm.MethodName) prog_1_method_86_code (1 : Nat) (Option.some Jvm.ClassFile.FieldType.int)) ∈ lw_all := lw_g (lw_at lw_m6 112 rfl) rfl
theorem q1418 : (Jvm.Cond.instanceMethod ({ cls := "TitheBarn", name := "restore", desc := "()I" } : Jvm.MethodName)) ∈ lw_all := lw_g (lw_at lw_m6 114 rfl) rfl
theorem q1419 : (Jvm.Cond.selects "TitheBarn" ({ cls := "TitheBarn", name := "restore", desc := "()I" } : Jvm.MethodName) ({ cls := "TitheBarn", name := "restore", desc := "()I" } : Jvm.MethodName)) ∈ lw_all := lw_g (lw_at lw_m6 115 rfl) rfl
theorem q1420 : (Jvm.Cond.code ({ cls := "TitheBarn", name := "restore", desc := "()I" } : Jvm.MethodName) prog_1_method_87_code (1 : Nat) (Option.some Jvm.ClassFile.FieldType.int)) ∈ lw_all := lw_g (lw_at lw_m6 116 rfl) rfl
theorem q1925 : (Jvm.Cond.castable "TitheBarn" "java/lang/Object") ∈ lw_tbl := lw_at lw_m8 141 rfl
theorem in_X0 : ∀ w ∈ wsX00, w ∈ lw_all := lw_in wsX00 [409, 411, 413, 415, 417, 419, 421, 423, 425, 427, 429, 431, 433, 435] (by decide +kernel) (by decide +kernel)
/-! TitheBarn$State -/
def RX1 : String := "TitheBarn$State"
def TX1 : u_T := fun k => match k with
  | 0 => ("TitheBarn$State", "parishes", "[LTitheBarn$Parish;", true)
  | 1 => ("TitheBarn$State", "parishMany", "I", false)
  | 2 => ("TitheBarn$State", "bays", "[LTitheBarn$Bay;", true)
  | 3 => ("TitheBarn$State", "floors", "[LTitheBarn$Floor;", true)
  | 4 => ("TitheBarn$State", "bins", "[LTitheBarn$Bin;", true)
  | 5 => ("TitheBarn$State", "places", "[LTitheBarn$Place;", true)
  | 6 => ("TitheBarn$State", "cat", "I", false)
  | 7 => ("TitheBarn$State", "day", "I", false)
  | 8 => ("TitheBarn$State", "coins", "I", false)
  | _ => ("TitheBarn$State", "eatenPints", "I", false)
def tyX1 : Nat → FieldType := fun k => match k with
  | 0 => .array (.object "TitheBarn$Parish")
  | 1 => .int
  | 2 => .array (.object "TitheBarn$Bay")
  | 3 => .array (.object "TitheBarn$Floor")
  | 4 => .array (.object "TitheBarn$Bin")
  | 5 => .array (.object "TitheBarn$Place")
  | 6 => .int
  | 7 => .int
  | 8 => .int
  | _ => .int
abbrev wsX10 : List Cond := u_ws RX1 TX1 10
theorem nmX1 : ∀ a, a < 10 → ∀ b, b < 10 → a ≠ b → (TX1 a).2.1 ≠ (TX1 b).2.1 := by decide +kernel
theorem tyX1_ok : ∀ k, k < 10 → parseFieldDescriptor (TX1 k).2.2.1 = some (tyX1 k) := by decide +kernel
abbrev cX1_init : ByteArray := prog_18_method_1_code
def yX1_init : MethodName := ⟨RX1, "<init>", "()V"⟩
abbrev cX1_clear : ByteArray := prog_18_method_2_code
def yX1_clear : MethodName := ⟨RX1, "clear", "()V"⟩
abbrev cX1_like : ByteArray := prog_18_method_3_code
def yX1_like : MethodName := ⟨RX1, "like", "(LTitheBarn$State;)V"⟩
abbrev cX1_passes : ByteArray := prog_18_method_8_code
def yX1_passes : MethodName := ⟨RX1, "passes", "()I"⟩
abbrev cX1_threshes : ByteArray := prog_18_method_5_code
def yX1_threshes : MethodName := ⟨RX1, "threshes", "(LTitheBarn$Floor;)I"⟩
abbrev cX1_isLeftIn : ByteArray := prog_18_method_6_code
def yX1_isLeftIn : MethodName := ⟨RX1, "isLeftIn", "(LTitheBarn$Bay;LTitheBarn$Place;)Z"⟩
abbrev cX1_isLeftIn_2 : ByteArray := prog_18_method_7_code
def yX1_isLeftIn_2 : MethodName := ⟨RX1, "isLeftIn", "(LTitheBarn$Bin;LTitheBarn$Place;)Z"⟩
abbrev cX1_pintsIn : ByteArray := prog_18_method_4_code
def yX1_pintsIn : MethodName := ⟨RX1, "pintsIn", "(LTitheBarn$Bay;)I"⟩
theorem q106 : (Jvm.Cond.initialized "TitheBarn$State") ∈ lw_all := lw_g (lw_at lw_m1 2 rfl) rfl
theorem q151 : (Jvm.Cond.instantiable "TitheBarn$State" (10 : Nat)) ∈ lw_all := lw_g (lw_at lw_m1 47 rfl) rfl
theorem q153 : (Jvm.Cond.instanceMethod ({ cls := "TitheBarn$State", name := "<init>", desc := "()V" } : Jvm.MethodName)) ∈ lw_all := lw_g (lw_at lw_m1 49 rfl) rfl
theorem q154 : (Jvm.Cond.code ({ cls := "TitheBarn$State", name := "<init>", desc := "()V" } : Jvm.MethodName) prog_18_method_1_code (2 : Nat) (Option.none : Option Jvm.ClassFile.FieldType)) ∈ lw_all := lw_g (lw_at lw_m1 50 rfl) rfl
theorem q155 : (Jvm.Cond.methodLink "TitheBarn$State" (3 : Nat) ({ cls := "java/lang/Object", name := "<init>", desc := "()V" } : Jvm.MethodName)) ∈ lw_all := lw_g (lw_at lw_m1 51 rfl) rfl
theorem q156 : (Jvm.Cond.classLink "TitheBarn$State" (9 : Nat) "TitheBarn$Parish") ∈ lw_all := lw_g (lw_at lw_m1 52 rfl) rfl
theorem q158 : (Jvm.Cond.classLink "TitheBarn$State" (17 : Nat) "TitheBarn$Bay") ∈ lw_all := lw_g (lw_at lw_m1 54 rfl) rfl
theorem q160 : (Jvm.Cond.classLink "TitheBarn$State" (23 : Nat) "TitheBarn$Floor") ∈ lw_all := lw_g (lw_at lw_m1 56 rfl) rfl
theorem q162 : (Jvm.Cond.classLink "TitheBarn$State" (29 : Nat) "TitheBarn$Bin") ∈ lw_all := lw_g (lw_at lw_m1 58 rfl) rfl
theorem q164 : (Jvm.Cond.classLink "TitheBarn$State" (35 : Nat) "TitheBarn$Place") ∈ lw_all := lw_g (lw_at lw_m1 60 rfl) rfl
theorem q167 : (Jvm.Cond.methodLinkNest "TitheBarn$State" (45 : Nat) ({ cls := "TitheBarn$Parish", name := "<init>", desc := "()V" } : Jvm.MethodName) "TitheBarn") ∈ lw_tbl := lw_at lw_m1 63 rfl
theorem q172 : (Jvm.Cond.fieldLinkNest "TitheBarn$State" (106 : Nat) "TitheBarn$Parish" "kind" "I" "TitheBarn") ∈ lw_tbl := lw_at lw_m1 68 rfl
theorem q202 : (Jvm.Cond.methodLinkNest "TitheBarn$State" (46 : Nat) ({ cls := "TitheBarn$Bay", name := "<init>", desc := "()V" } : Jvm.MethodName) "TitheBarn") ∈ lw_tbl := lw_at lw_m1 98 rfl
theorem q218 : (Jvm.Cond.fieldLinkNest "TitheBarn$State" (103 : Nat) "TitheBarn$Lot" "parish" "I" "TitheBarn") ∈ lw_tbl := lw_at lw_m1 114 rfl
theorem q221 : (Jvm.Cond.fieldLinkNest "TitheBarn$State" (100 : Nat) "TitheBarn$Lot" "sheaves" "I" "TitheBarn") ∈ lw_tbl := lw_at lw_m1 117 rfl
theorem q236 : (Jvm.Cond.fieldLinkNest "TitheBarn$State" (136 : Nat) "TitheBarn$Bay" "sheaves" "I" "TitheBarn") ∈ lw_tbl := lw_at lw_m1 132 rfl
theorem q246 : (Jvm.Cond.methodLinkNest "TitheBarn$State" (47 : Nat) ({ cls := "TitheBarn$Floor", name := "<init>", desc := "()V" } : Jvm.MethodName) "TitheBarn") ∈ lw_tbl := lw_at lw_m1 142 rfl
theorem q251 : (Jvm.Cond.fieldLinkNest "TitheBarn$State" (113 : Nat) "TitheBarn$Floor" "kind" "I" "TitheBarn") ∈ lw_tbl := lw_at lw_m1 147 rfl
theorem q254 : (Jvm.Cond.fieldLinkNest "TitheBarn$State" (117 : Nat) "TitheBarn$Floor" "sheaves" "I" "TitheBarn") ∈ lw_tbl := lw_at lw_m1 150 rfl
theorem q257 : (Jvm.Cond.fieldLinkNest "TitheBarn$State" (114 : Nat) "TitheBarn$Floor" "flails" "I" "TitheBarn") ∈ lw_tbl := lw_at lw_m1 153 rfl
theorem q260 : (Jvm.Cond.fieldLinkNest "TitheBarn$State" (127 : Nat) "TitheBarn$Floor" "threshed" "I" "TitheBarn") ∈ lw_tbl := lw_at lw_m1 156 rfl
theorem q272 : (Jvm.Cond.methodLinkNest "TitheBarn$State" (48 : Nat) ({ cls := "TitheBarn$Bin", name := "<init>", desc := "()V" } : Jvm.MethodName) "TitheBarn") ∈ lw_tbl := lw_at lw_m1 168 rfl
theorem q277 : (Jvm.Cond.fieldLinkNest "TitheBarn$State" (124 : Nat) "TitheBarn$Bin" "pints" "I" "TitheBarn") ∈ lw_tbl := lw_at lw_m1 173 rfl
theorem q286 : (Jvm.Cond.fieldLinkNest "TitheBarn$State" (130 : Nat) "TitheBarn$Bin" "came" "I" "TitheBarn") ∈ lw_tbl := lw_at lw_m1 182 rfl
theorem q300 : (Jvm.Cond.methodLinkNest "TitheBarn$State" (49 : Nat) ({ cls := "TitheBarn$Place", name := "<init>", desc := "()V" } : Jvm.MethodName) "TitheBarn") ∈ lw_tbl := lw_at lw_m1 196 rfl
theorem q307 : (Jvm.Cond.fieldLinkNest "TitheBarn$State" (133 : Nat) "TitheBarn$Place" "rats" "I" "TitheBarn") ∈ lw_tbl := lw_at lw_m1 203 rfl
theorem q310 : (Jvm.Cond.fieldLinkNest "TitheBarn$State" (137 : Nat) "TitheBarn$Place" "eaten" "I" "TitheBarn") ∈ lw_tbl := lw_at lw_m1 206 rfl
theorem q319 : (Jvm.Cond.fieldLink "TitheBarn$State" (11 : Nat) "TitheBarn$State" "parishes" "[LTitheBarn$Parish;") ∈ lw_all := lw_g (lw_at lw_m1 215 rfl) rfl
theorem q321 : (Jvm.Cond.fieldLink "TitheBarn$State" (50 : Nat) "TitheBarn$State" "parishMany" "I") ∈ lw_all := lw_g (lw_at lw_m1 217 rfl) rfl
theorem q323 : (Jvm.Cond.fieldLink "TitheBarn$State" (19 : Nat) "TitheBarn$State" "bays" "[LTitheBarn$Bay;") ∈ lw_all := lw_g (lw_at lw_m1 219 rfl) rfl
theorem q325 : (Jvm.Cond.fieldLink "TitheBarn$State" (25 : Nat) "TitheBarn$State" "floors" "[LTitheBarn$Floor;") ∈ lw_all := lw_g (lw_at lw_m1 221 rfl) rfl
theorem q327 : (Jvm.Cond.fieldLink "TitheBarn$State" (31 : Nat) "TitheBarn$State" "bins" "[LTitheBarn$Bin;") ∈ lw_all := lw_g (lw_at lw_m1 223 rfl) rfl
theorem q329 : (Jvm.Cond.fieldLink "TitheBarn$State" (37 : Nat) "TitheBarn$State" "places" "[LTitheBarn$Place;") ∈ lw_all := lw_g (lw_at lw_m1 225 rfl) rfl
theorem q331 : (Jvm.Cond.fieldLink "TitheBarn$State" (41 : Nat) "TitheBarn$State" "cat" "I") ∈ lw_all := lw_g (lw_at lw_m1 227 rfl) rfl
theorem q333 : (Jvm.Cond.fieldLink "TitheBarn$State" (53 : Nat) "TitheBarn$State" "day" "I") ∈ lw_all := lw_g (lw_at lw_m1 229 rfl) rfl
theorem q335 : (Jvm.Cond.fieldLink "TitheBarn$State" (56 : Nat) "TitheBarn$State" "coins" "I") ∈ lw_all := lw_g (lw_at lw_m1 231 rfl) rfl
theorem q337 : (Jvm.Cond.fieldLink "TitheBarn$State" (59 : Nat) "TitheBarn$State" "eatenPints" "I") ∈ lw_all := lw_g (lw_at lw_m1 233 rfl) rfl
theorem q339 : (Jvm.Cond.laysFinal "TitheBarn$State" "TitheBarn$State" "parishes" "[LTitheBarn$Parish;") ∈ lw_all := lw_g (lw_at lw_m1 235 rfl) rfl
theorem q340 : (Jvm.Cond.soleField "TitheBarn$State" "parishes") ∈ lw_all := lw_g (lw_at lw_m1 236 rfl) rfl
theorem q341 : (Jvm.Cond.lays "TitheBarn$State" "TitheBarn$State" "parishMany" "I") ∈ lw_all := lw_g (lw_at lw_m1 237 rfl) rfl
theorem q342 : (Jvm.Cond.soleField "TitheBarn$State" "parishMany") ∈ lw_all := lw_g (lw_at lw_m1 238 rfl) rfl
theorem q343 : (Jvm.Cond.laysFinal "TitheBarn$State" "TitheBarn$State" "bays" "[LTitheBarn$Bay;") ∈ lw_all := lw_g (lw_at lw_m1 239 rfl) rfl
theorem q344 : (Jvm.Cond.soleField "TitheBarn$State" "bays") ∈ lw_all := lw_g (lw_at lw_m2 0 rfl) rfl
theorem q345 : (Jvm.Cond.laysFinal "TitheBarn$State" "TitheBarn$State" "floors" "[LTitheBarn$Floor;") ∈ lw_all := lw_g (lw_at lw_m2 1 rfl) rfl
theorem q346 : (Jvm.Cond.soleField "TitheBarn$State" "floors") ∈ lw_all := lw_g (lw_at lw_m2 2 rfl) rfl
theorem q347 : (Jvm.Cond.laysFinal "TitheBarn$State" "TitheBarn$State" "bins" "[LTitheBarn$Bin;") ∈ lw_all := lw_g (lw_at lw_m2 3 rfl) rfl
theorem q348 : (Jvm.Cond.soleField "TitheBarn$State" "bins") ∈ lw_all := lw_g (lw_at lw_m2 4 rfl) rfl
theorem q349 : (Jvm.Cond.laysFinal "TitheBarn$State" "TitheBarn$State" "places" "[LTitheBarn$Place;") ∈ lw_all := lw_g (lw_at lw_m2 5 rfl) rfl
theorem q350 : (Jvm.Cond.soleField "TitheBarn$State" "places") ∈ lw_all := lw_g (lw_at lw_m2 6 rfl) rfl
theorem q351 : (Jvm.Cond.lays "TitheBarn$State" "TitheBarn$State" "cat" "I") ∈ lw_all := lw_g (lw_at lw_m2 7 rfl) rfl
theorem q352 : (Jvm.Cond.soleField "TitheBarn$State" "cat") ∈ lw_all := lw_g (lw_at lw_m2 8 rfl) rfl
theorem q353 : (Jvm.Cond.lays "TitheBarn$State" "TitheBarn$State" "day" "I") ∈ lw_all := lw_g (lw_at lw_m2 9 rfl) rfl
theorem q354 : (Jvm.Cond.soleField "TitheBarn$State" "day") ∈ lw_all := lw_g (lw_at lw_m2 10 rfl) rfl
theorem q355 : (Jvm.Cond.lays "TitheBarn$State" "TitheBarn$State" "coins" "I") ∈ lw_all := lw_g (lw_at lw_m2 11 rfl) rfl
theorem q356 : (Jvm.Cond.soleField "TitheBarn$State" "coins") ∈ lw_all := lw_g (lw_at lw_m2 12 rfl) rfl
theorem q357 : (Jvm.Cond.lays "TitheBarn$State" "TitheBarn$State" "eatenPints" "I") ∈ lw_all := lw_g (lw_at lw_m2 13 rfl) rfl
theorem q358 : (Jvm.Cond.soleField "TitheBarn$State" "eatenPints") ∈ lw_all := lw_g (lw_at lw_m2 14 rfl) rfl
theorem q359 : (Jvm.Cond.superclass "TitheBarn$State" "java/lang/Object") ∈ lw_all := lw_g (lw_at lw_m2 15 rfl) rfl
theorem q443 : (Jvm.Cond.instanceMethod ({ cls := "TitheBarn$State", name := "clear", desc := "()V" } : Jvm.MethodName)) ∈ lw_all := lw_g (lw_at lw_m2 99 rfl) rfl
theorem q444 : (Jvm.Cond.selects "TitheBarn$State" ({ cls := "TitheBarn$State", name := "clear", desc := "()V" } : Jvm.MethodName) ({ cls := "TitheBarn$State", name := "clear", desc := "()V" } : Jvm.MethodName)) ∈ lw_all := lw_g (lw_at lw_m2 100 rfl) rfl
theorem q445 : (Jvm.Cond.code ({ cls := "TitheBarn$State", name := "clear", desc := "()V" } : Jvm.MethodName) prog_18_method_2_code (5 : Nat) (Option.none : Option Jvm.ClassFile.FieldType)) ∈ lw_all := lw_g (lw_at lw_m2 101 rfl) rfl
theorem q446 : (Jvm.Cond.methodLink "TitheBarn$State" (62 : Nat) ({ cls := "TitheBarn$Bay", name := "clear", desc := "()V" } : Jvm.MethodName)) ∈ lw_all := lw_g (lw_at lw_m2 102 rfl) rfl
theorem q450 : (Jvm.Cond.methodLink "TitheBarn$State" (65 : Nat) ({ cls := "TitheBarn$Floor", name := "clear", desc := "()V" } : Jvm.MethodName)) ∈ lw_all := lw_g (lw_at lw_m2 106 rfl) rfl
theorem q454 : (Jvm.Cond.methodLink "TitheBarn$State" (66 : Nat) ({ cls := "TitheBarn$Bin", name := "clear", desc := "()V" } : Jvm.MethodName)) ∈ lw_all := lw_g (lw_at lw_m2 110 rfl) rfl
theorem q458 : (Jvm.Cond.methodLink "TitheBarn$State" (67 : Nat) ({ cls := "TitheBarn$Place", name := "clear", desc := "()V" } : Jvm.MethodName)) ∈ lw_all := lw_g (lw_at lw_m2 114 rfl) rfl
theorem q473 : (Jvm.Cond.instanceMethod ({ cls := "TitheBarn$State", name := "like", desc := "(LTitheBarn$State;)V" } : Jvm.MethodName)) ∈ lw_all := lw_g (lw_at lw_m2 129 rfl) rfl
theorem q474 : (Jvm.Cond.selects "TitheBarn$State" ({ cls := "TitheBarn$State", name := "like", desc := "(LTitheBarn$State;)V" } : Jvm.MethodName) ({ cls := "TitheBarn$State", name := "like", desc := "(LTitheBarn$State;)V" } : Jvm.MethodName)) ∈ lw_all := lw_g (lw_at lw_m2 130 rfl) rfl
theorem q475 : (Jvm.Cond.code ({ cls := "TitheBarn$State", name := "like", desc := "(LTitheBarn$State;)V" } : Jvm.MethodName) prog_18_method_3_code (3 : Nat) (Option.none : Option Jvm.ClassFile.FieldType)) ∈ lw_all := lw_g (lw_at lw_m2 131 rfl) rfl
theorem q476 : (Jvm.Cond.methodLink "TitheBarn$State" (68 : Nat) ({ cls := "TitheBarn$Parish", name := "like", desc := "(LTitheBarn$Parish;)V" } : Jvm.MethodName)) ∈ lw_all := lw_g (lw_at lw_m2 132 rfl) rfl
theorem q483 : (Jvm.Cond.methodLink "TitheBarn$State" (72 : Nat) ({ cls := "TitheBarn$Bay", name := "like", desc := "(LTitheBarn$Bay;)V" } : Jvm.MethodName)) ∈ lw_all := lw_g (lw_at lw_m2 139 rfl) rfl
theorem q491 : (Jvm.Cond.methodLink "TitheBarn$State" (75 : Nat) ({ cls := "TitheBarn$Floor", name := "like", desc := "(LTitheBarn$Floor;)V" } : Jvm.MethodName)) ∈ lw_all := lw_g (lw_at lw_m2 147 rfl) rfl
theorem q495 : (Jvm.Cond.methodLink "TitheBarn$State" (78 : Nat) ({ cls := "TitheBarn$Bin", name := "like", desc := "(LTitheBarn$Bin;)V" } : Jvm.MethodName)) ∈ lw_all := lw_g (lw_at lw_m2 151 rfl) rfl
theorem q499 : (Jvm.Cond.methodLink "TitheBarn$State" (81 : Nat) ({ cls := "TitheBarn$Place", name := "like", desc := "(LTitheBarn$Place;)V" } : Jvm.MethodName)) ∈ lw_all := lw_g (lw_at lw_m2 155 rfl) rfl
theorem q760 : (Jvm.Cond.instanceMethod ({ cls := "TitheBarn$State", name := "passes", desc := "()I" } : Jvm.MethodName)) ∈ lw_all := lw_g (lw_at lw_m3 176 rfl) rfl
theorem q761 : (Jvm.Cond.selects "TitheBarn$State" ({ cls := "TitheBarn$State", name := "passes", desc := "()I" } : Jvm.MethodName) ({ cls := "TitheBarn$State", name := "passes", desc := "()I" } : Jvm.MethodName)) ∈ lw_all := lw_g (lw_at lw_m3 177 rfl) rfl
theorem q762 : (Jvm.Cond.code ({ cls := "TitheBarn$State", name := "passes", desc := "()I" } : Jvm.MethodName) prog_18_method_8_code (6 : Nat) (Option.some Jvm.ClassFile.FieldType.int)) ∈ lw_all := lw_g (lw_at lw_m3 178 rfl) rfl
theorem q763 : (Jvm.Cond.methodLink "TitheBarn$State" (144 : Nat) ({ cls := "TitheBarn$State", name := "threshes", desc := "(LTitheBarn$Floor;)I" } : Jvm.MethodName)) ∈ lw_all := lw_g (lw_at lw_m3 179 rfl) rfl
theorem q764 : (Jvm.Cond.privateMethod ({ cls := "TitheBarn$State", name := "threshes", desc := "(LTitheBarn$Floor;)I" } : Jvm.MethodName)) ∈ lw_tbl := lw_at lw_m3 180 rfl
theorem q765 : (Jvm.Cond.instanceMethod ({ cls := "TitheBarn$State", name := "threshes", desc := "(LTitheBarn$Floor;)I" } : Jvm.MethodName)) ∈ lw_all := lw_g (lw_at lw_m3 181 rfl) rfl
theorem q766 : (Jvm.Cond.code ({ cls := "TitheBarn$State", name := "threshes", desc := "(LTitheBarn$Floor;)I" } : Jvm.MethodName) prog_18_method_5_code (4 : Nat) (Option.some Jvm.ClassFile.FieldType.int)) ∈ lw_all := lw_g (lw_at lw_m3 182 rfl) rfl
theorem q767 : (Jvm.Cond.methodLink "TitheBarn$State" (118 : Nat) ({ cls := "java/lang/Math", name := "min", desc := "(II)I" } : Jvm.MethodName)) ∈ lw_all := lw_g (lw_at lw_m3 183 rfl) rfl
theorem q768 : (Jvm.Cond.methodLinkNest "TitheBarn$State" (109 : Nat) ({ cls := "TitheBarn", name := "pintsOf", desc := "(I)I" } : Jvm.MethodName) "TitheBarn") ∈ lw_tbl := lw_at lw_m3 184 rfl
theorem q771 : (Jvm.Cond.methodLink "TitheBarn$State" (148 : Nat) ({ cls := "TitheBarn$State", name := "isLeftIn", desc := "(LTitheBarn$Bay;LTitheBarn$Place;)Z" } : Jvm.MethodName)) ∈ lw_all := lw_g (lw_at lw_m3 187 rfl) rfl
theorem q772 : (Jvm.Cond.privateMethod ({ cls := "TitheBarn$State", name := "isLeftIn", desc := "(LTitheBarn$Bay;LTitheBarn$Place;)Z" } : Jvm.MethodName)) ∈ lw_tbl := lw_at lw_m3 188 rfl
theorem q773 : (Jvm.Cond.instanceMethod ({ cls := "TitheBarn$State", name := "isLeftIn", desc := "(LTitheBarn$Bay;LTitheBarn$Place;)Z" } : Jvm.MethodName)) ∈ lw_all := lw_g (lw_at lw_m3 189 rfl) rfl
theorem q774 : (Jvm.Cond.code ({ cls := "TitheBarn$State", name := "isLeftIn", desc := "(LTitheBarn$Bay;LTitheBarn$Place;)Z" } : Jvm.MethodName) prog_18_method_6_code (5 : Nat) (Option.some Jvm.ClassFile.FieldType.boolean)) ∈ lw_all := lw_g (lw_at lw_m3 190 rfl) rfl
theorem q775 : (Jvm.Cond.methodLink "TitheBarn$State" (140 : Nat) ({ cls := "TitheBarn$Bay", name := "takes", desc := "()I" } : Jvm.MethodName)) ∈ lw_all := lw_g (lw_at lw_m3 191 rfl) rfl
theorem q776 : (Jvm.Cond.methodLink "TitheBarn$State" (152 : Nat) ({ cls := "TitheBarn$State", name := "isLeftIn", desc := "(LTitheBarn$Bin;LTitheBarn$Place;)Z" } : Jvm.MethodName)) ∈ lw_all := lw_g (lw_at lw_m3 192 rfl) rfl
theorem q777 : (Jvm.Cond.privateMethod ({ cls := "TitheBarn$State", name := "isLeftIn", desc := "(LTitheBarn$Bin;LTitheBarn$Place;)Z" } : Jvm.MethodName)) ∈ lw_tbl := lw_at lw_m3 193 rfl
theorem q778 : (Jvm.Cond.instanceMethod ({ cls := "TitheBarn$State", name := "isLeftIn", desc := "(LTitheBarn$Bin;LTitheBarn$Place;)Z" } : Jvm.MethodName)) ∈ lw_all := lw_g (lw_at lw_m3 194 rfl) rfl
theorem q779 : (Jvm.Cond.code ({ cls := "TitheBarn$State", name := "isLeftIn", desc := "(LTitheBarn$Bin;LTitheBarn$Place;)Z" } : Jvm.MethodName) prog_18_method_7_code (4 : Nat) (Option.some Jvm.ClassFile.FieldType.boolean)) ∈ lw_all := lw_g (lw_at lw_m3 195 rfl) rfl
theorem q780 : (Jvm.Cond.methodLink "TitheBarn$State" (155 : Nat) ({ cls := "TitheBarn$Place", name := "breeds", desc := "(ZZ)V" } : Jvm.MethodName)) ∈ lw_all := lw_g (lw_at lw_m3 196 rfl) rfl
theorem q788 : (Jvm.Cond.methodLink "TitheBarn$State" (159 : Nat) ({ cls := "TitheBarn$Parish", name := "passes", desc := "(I)V" } : Jvm.MethodName)) ∈ lw_all := lw_g (lw_at lw_m3 204 rfl) rfl
theorem q1267 : (Jvm.Cond.instanceMethod ({ cls := "TitheBarn$State", name := "pintsIn", desc := "(LTitheBarn$Bay;)I" } : Jvm.MethodName)) ∈ lw_all := lw_g (lw_at lw_m5 203 rfl) rfl
theorem q1268 : (Jvm.Cond.selects "TitheBarn$State" ({ cls := "TitheBarn$State", name := "pintsIn", desc := "(LTitheBarn$Bay;)I" } : Jvm.MethodName) ({ cls := "TitheBarn$State", name := "pintsIn", desc := "(LTitheBarn$Bay;)I" } : Jvm.MethodName)) ∈ lw_all := lw_g (lw_at lw_m5 204 rfl) rfl
theorem q1269 : (Jvm.Cond.code ({ cls := "TitheBarn$State", name := "pintsIn", desc := "(LTitheBarn$Bay;)I" } : Jvm.MethodName) prog_18_method_4_code (5 : Nat) (Option.some Jvm.ClassFile.FieldType.int)) ∈ lw_all := lw_g (lw_at lw_m5 205 rfl) rfl
theorem q1270 : (Jvm.Cond.methodLink "TitheBarn$State" (84 : Nat) ({ cls := "TitheBarn$Bay", name := "iterator", desc := "()Ljava/util/Iterator;" } : Jvm.MethodName)) ∈ lw_all := lw_g (lw_at lw_m5 206 rfl) rfl
theorem q1271 : (Jvm.Cond.interfaceEntry "TitheBarn$State" (88 : Nat)) ∈ lw_tbl := lw_at lw_m5 207 rfl
theorem q1272 : (Jvm.Cond.methodLink "TitheBarn$State" (88 : Nat) ({ cls := "java/util/Iterator", name := "hasNext", desc := "()Z" } : Jvm.MethodName)) ∈ lw_all := lw_g (lw_at lw_m5 208 rfl) rfl
theorem q1273 : (Jvm.Cond.interfaceEntry "TitheBarn$State" (94 : Nat)) ∈ lw_tbl := lw_at lw_m5 209 rfl
theorem q1274 : (Jvm.Cond.methodLink "TitheBarn$State" (94 : Nat) ({ cls := "java/util/Iterator", name := "next", desc := "()Ljava/lang/Object;" } : Jvm.MethodName)) ∈ lw_all := lw_g (lw_at lw_m5 210 rfl) rfl
theorem q1275 : (Jvm.Cond.classLink "TitheBarn$State" (98 : Nat) "TitheBarn$Lot") ∈ lw_all := lw_g (lw_at lw_m5 211 rfl) rfl
theorem q1926 : (Jvm.Cond.castable "TitheBarn$State" "java/lang/Object") ∈ lw_tbl := lw_at lw_m8 142 rfl
theorem in_X1 : ∀ w ∈ wsX10, w ∈ lw_all := lw_in wsX10 [339, 341, 343, 345, 347, 349, 351, 353, 355, 357] (by decide +kernel) (by decide +kernel)
/-! TitheBarn$Parish -/
def RX2 : String := "TitheBarn$Parish"
def TX2 : u_T := fun k => match k with
  | 0 => ("TitheBarn$Parish", "kind", "I", false)
  | 1 => ("TitheBarn$Parish", "counted", "I", false)
  | 2 => ("TitheBarn$Parish", "carted", "I", false)
  | 3 => ("TitheBarn$Parish", "arrears", "I", false)
  | 4 => ("TitheBarn$Parish", "days", "[I", true)
  | 5 => ("TitheBarn$Parish", "dues", "[I", true)
  | _ => ("TitheBarn$Parish", "many", "I", false)
def tyX2 : Nat → FieldType := fun k => match k with
  | 0 => .int
  | 1 => .int
  | 2 => .int
  | 3 => .int
  | 4 => .array .int
  | 5 => .array .int
  | _ => .int
abbrev wsX20 : List Cond := u_ws RX2 TX2 7
theorem nmX2 : ∀ a, a < 7 → ∀ b, b < 7 → a ≠ b → (TX2 a).2.1 ≠ (TX2 b).2.1 := by decide +kernel
theorem tyX2_ok : ∀ k, k < 7 → parseFieldDescriptor (TX2 k).2.2.1 = some (tyX2 k) := by decide +kernel
abbrev cX2_init : ByteArray := prog_14_method_1_code
def yX2_init : MethodName := ⟨RX2, "<init>", "()V"⟩
abbrev cX2_like : ByteArray := prog_14_method_3_code
def yX2_like : MethodName := ⟨RX2, "like", "(LTitheBarn$Parish;)V"⟩
abbrev cX2_becomes : ByteArray := prog_14_method_2_code
def yX2_becomes : MethodName := ⟨RX2, "becomes", "(I)V"⟩
abbrev cX2_tithe : ByteArray := prog_14_method_5_code
def yX2_tithe : MethodName := ⟨RX2, "tithe", "(I)I"⟩
abbrev cX2_owes : ByteArray := prog_14_method_6_code
def yX2_owes : MethodName := ⟨RX2, "owes", "(II)V"⟩
abbrev cX2_due : ByteArray := prog_14_method_4_code
def yX2_due : MethodName := ⟨RX2, "due", "()I"⟩
abbrev cX2_gives : ByteArray := prog_14_method_8_code
def yX2_gives : MethodName := ⟨RX2, "gives", "(I)V"⟩
abbrev cX2_dropsFirst : ByteArray := prog_14_method_7_code
def yX2_dropsFirst : MethodName := ⟨RX2, "dropsFirst", "()V"⟩
abbrev cX2_passes : ByteArray := prog_14_method_9_code
def yX2_passes : MethodName := ⟨RX2, "passes", "(I)V"⟩
theorem q107 : (Jvm.Cond.initialized "TitheBarn$Parish") ∈ lw_all := lw_g (lw_at lw_m1 3 rfl) rfl
theorem q166 : (Jvm.Cond.instantiable "TitheBarn$Parish" (7 : Nat)) ∈ lw_all := lw_g (lw_at lw_m1 62 rfl) rfl
theorem q168 : (Jvm.Cond.instanceMethod ({ cls := "TitheBarn$Parish", name := "<init>", desc := "()V" } : Jvm.MethodName)) ∈ lw_all := lw_g (lw_at lw_m1 64 rfl) rfl
theorem q169 : (Jvm.Cond.code ({ cls := "TitheBarn$Parish", name := "<init>", desc := "()V" } : Jvm.MethodName) prog_14_method_1_code (1 : Nat) (Option.none : Option Jvm.ClassFile.FieldType)) ∈ lw_all := lw_g (lw_at lw_m1 65 rfl) rfl
theorem q170 : (Jvm.Cond.methodLink "TitheBarn$Parish" (3 : Nat) ({ cls := "java/lang/Object", name := "<init>", desc := "()V" } : Jvm.MethodName)) ∈ lw_all := lw_g (lw_at lw_m1 66 rfl) rfl
theorem q171 : (Jvm.Cond.fieldLink "TitheBarn$Parish" (18 : Nat) "TitheBarn$Parish" "kind" "I") ∈ lw_all := lw_g (lw_at lw_m1 67 rfl) rfl
theorem q174 : (Jvm.Cond.fieldLink "TitheBarn$Parish" (22 : Nat) "TitheBarn$Parish" "counted" "I") ∈ lw_all := lw_g (lw_at lw_m1 70 rfl) rfl
theorem q176 : (Jvm.Cond.fieldLink "TitheBarn$Parish" (25 : Nat) "TitheBarn$Parish" "carted" "I") ∈ lw_all := lw_g (lw_at lw_m1 72 rfl) rfl
theorem q178 : (Jvm.Cond.fieldLink "TitheBarn$Parish" (28 : Nat) "TitheBarn$Parish" "arrears" "I") ∈ lw_all := lw_g (lw_at lw_m1 74 rfl) rfl
theorem q180 : (Jvm.Cond.fieldLink "TitheBarn$Parish" (9 : Nat) "TitheBarn$Parish" "days" "[I") ∈ lw_all := lw_g (lw_at lw_m1 76 rfl) rfl
theorem q182 : (Jvm.Cond.fieldLink "TitheBarn$Parish" (15 : Nat) "TitheBarn$Parish" "dues" "[I") ∈ lw_all := lw_g (lw_at lw_m1 78 rfl) rfl
theorem q183 : (Jvm.Cond.fieldLink "TitheBarn$Parish" (31 : Nat) "TitheBarn$Parish" "many" "I") ∈ lw_all := lw_g (lw_at lw_m1 79 rfl) rfl
theorem q185 : (Jvm.Cond.lays "TitheBarn$Parish" "TitheBarn$Parish" "kind" "I") ∈ lw_all := lw_g (lw_at lw_m1 81 rfl) rfl
theorem q186 : (Jvm.Cond.soleField "TitheBarn$Parish" "kind") ∈ lw_all := lw_g (lw_at lw_m1 82 rfl) rfl
theorem q187 : (Jvm.Cond.lays "TitheBarn$Parish" "TitheBarn$Parish" "counted" "I") ∈ lw_all := lw_g (lw_at lw_m1 83 rfl) rfl
theorem q188 : (Jvm.Cond.soleField "TitheBarn$Parish" "counted") ∈ lw_all := lw_g (lw_at lw_m1 84 rfl) rfl
theorem q189 : (Jvm.Cond.lays "TitheBarn$Parish" "TitheBarn$Parish" "carted" "I") ∈ lw_all := lw_g (lw_at lw_m1 85 rfl) rfl
theorem q190 : (Jvm.Cond.soleField "TitheBarn$Parish" "carted") ∈ lw_all := lw_g (lw_at lw_m1 86 rfl) rfl
theorem q191 : (Jvm.Cond.lays "TitheBarn$Parish" "TitheBarn$Parish" "arrears" "I") ∈ lw_all := lw_g (lw_at lw_m1 87 rfl) rfl
theorem q192 : (Jvm.Cond.soleField "TitheBarn$Parish" "arrears") ∈ lw_all := lw_g (lw_at lw_m1 88 rfl) rfl
theorem q193 : (Jvm.Cond.laysFinal "TitheBarn$Parish" "TitheBarn$Parish" "days" "[I") ∈ lw_all := lw_g (lw_at lw_m1 89 rfl) rfl
theorem q194 : (Jvm.Cond.soleField "TitheBarn$Parish" "days") ∈ lw_all := lw_g (lw_at lw_m1 90 rfl) rfl
theorem q195 : (Jvm.Cond.laysFinal "TitheBarn$Parish" "TitheBarn$Parish" "dues" "[I") ∈ lw_all := lw_g (lw_at lw_m1 91 rfl) rfl
theorem q196 : (Jvm.Cond.soleField "TitheBarn$Parish" "dues") ∈ lw_all := lw_g (lw_at lw_m1 92 rfl) rfl
theorem q197 : (Jvm.Cond.lays "TitheBarn$Parish" "TitheBarn$Parish" "many" "I") ∈ lw_all := lw_g (lw_at lw_m1 93 rfl) rfl
theorem q198 : (Jvm.Cond.soleField "TitheBarn$Parish" "many") ∈ lw_all := lw_g (lw_at lw_m1 94 rfl) rfl
theorem q199 : (Jvm.Cond.superclass "TitheBarn$Parish" "java/lang/Object") ∈ lw_all := lw_g (lw_at lw_m1 95 rfl) rfl
theorem q477 : (Jvm.Cond.instanceMethod ({ cls := "TitheBarn$Parish", name := "like", desc := "(LTitheBarn$Parish;)V" } : Jvm.MethodName)) ∈ lw_all := lw_g (lw_at lw_m2 133 rfl) rfl
theorem q478 : (Jvm.Cond.selects "TitheBarn$Parish" ({ cls := "TitheBarn$Parish", name := "like", desc := "(LTitheBarn$Parish;)V" } : Jvm.MethodName) ({ cls := "TitheBarn$Parish", name := "like", desc := "(LTitheBarn$Parish;)V" } : Jvm.MethodName)) ∈ lw_all := lw_g (lw_at lw_m2 134 rfl) rfl
theorem q479 : (Jvm.Cond.code ({ cls := "TitheBarn$Parish", name := "like", desc := "(LTitheBarn$Parish;)V" } : Jvm.MethodName) prog_14_method_3_code (2 : Nat) (Option.none : Option Jvm.ClassFile.FieldType)) ∈ lw_all := lw_g (lw_at lw_m2 135 rfl) rfl
theorem q480 : (Jvm.Cond.methodLink "TitheBarn$Parish" (34 : Nat) ({ cls := "java/lang/System", name := "arraycopy", desc := "(Ljava/lang/Object;ILjava/lang/Object;II)V" } : Jvm.MethodName)) ∈ lw_all := lw_g (lw_at lw_m2 136 rfl) rfl
theorem q610 : (Jvm.Cond.instanceMethod ({ cls := "TitheBarn$Parish", name := "becomes", desc := "(I)V" } : Jvm.MethodName)) ∈ lw_all := lw_g (lw_at lw_m3 26 rfl) rfl
theorem q611 : (Jvm.Cond.selects "TitheBarn$Parish" ({ cls := "TitheBarn$Parish", name := "becomes", desc := "(I)V" } : Jvm.MethodName) ({ cls := "TitheBarn$Parish", name := "becomes", desc := "(I)V" } : Jvm.MethodName)) ∈ lw_all := lw_g (lw_at lw_m3 27 rfl) rfl
theorem q612 : (Jvm.Cond.code ({ cls := "TitheBarn$Parish", name := "becomes", desc := "(I)V" } : Jvm.MethodName) prog_14_method_2_code (2 : Nat) (Option.none : Option Jvm.ClassFile.FieldType)) ∈ lw_all := lw_g (lw_at lw_m3 28 rfl) rfl
theorem q635 : (Jvm.Cond.instanceMethod ({ cls := "TitheBarn$Parish", name := "tithe", desc := "(I)I" } : Jvm.MethodName)) ∈ lw_all := lw_g (lw_at lw_m3 51 rfl) rfl
theorem q636 : (Jvm.Cond.selects "TitheBarn$Parish" ({ cls := "TitheBarn$Parish", name := "tithe", desc := "(I)I" } : Jvm.MethodName) ({ cls := "TitheBarn$Parish", name := "tithe", desc := "(I)I" } : Jvm.MethodName)) ∈ lw_all := lw_g (lw_at lw_m3 52 rfl) rfl
theorem q637 : (Jvm.Cond.code ({ cls := "TitheBarn$Parish", name := "tithe", desc := "(I)I" } : Jvm.MethodName) prog_14_method_5_code (2 : Nat) (Option.some Jvm.ClassFile.FieldType.int)) ∈ lw_all := lw_g (lw_at lw_m3 53 rfl) rfl
theorem q639 : (Jvm.Cond.instanceMethod ({ cls := "TitheBarn$Parish", name := "owes", desc := "(II)V" } : Jvm.MethodName)) ∈ lw_all := lw_g (lw_at lw_m3 55 rfl) rfl
theorem q640 : (Jvm.Cond.selects "TitheBarn$Parish" ({ cls := "TitheBarn$Parish", name := "owes", desc := "(II)V" } : Jvm.MethodName) ({ cls := "TitheBarn$Parish", name := "owes", desc := "(II)V" } : Jvm.MethodName)) ∈ lw_all := lw_g (lw_at lw_m3 56 rfl) rfl
theorem q641 : (Jvm.Cond.code ({ cls := "TitheBarn$Parish", name := "owes", desc := "(II)V" } : Jvm.MethodName) prog_14_method_6_code (3 : Nat) (Option.none : Option Jvm.ClassFile.FieldType)) ∈ lw_all := lw_g (lw_at lw_m3 57 rfl) rfl
theorem q657 : (Jvm.Cond.instanceMethod ({ cls := "TitheBarn$Parish", name := "due", desc := "()I" } : Jvm.MethodName)) ∈ lw_all := lw_g (lw_at lw_m3 73 rfl) rfl
theorem q658 : (Jvm.Cond.selects "TitheBarn$Parish" ({ cls := "TitheBarn$Parish", name := "due", desc := "()I" } : Jvm.MethodName) ({ cls := "TitheBarn$Parish", name := "due", desc := "()I" } : Jvm.MethodName)) ∈ lw_all := lw_g (lw_at lw_m3 74 rfl) rfl
theorem q659 : (Jvm.Cond.code ({ cls := "TitheBarn$Parish", name := "due", desc := "()I" } : Jvm.MethodName) prog_14_method_4_code (3 : Nat) (Option.some Jvm.ClassFile.FieldType.int)) ∈ lw_all := lw_g (lw_at lw_m3 75 rfl) rfl
theorem q662 : (Jvm.Cond.instanceMethod ({ cls := "TitheBarn$Parish", name := "gives", desc := "(I)V" } : Jvm.MethodName)) ∈ lw_all := lw_g (lw_at lw_m3 78 rfl) rfl
theorem q663 : (Jvm.Cond.selects "TitheBarn$Parish" ({ cls := "TitheBarn$Parish", name := "gives", desc := "(I)V" } : Jvm.MethodName) ({ cls := "TitheBarn$Parish", name := "gives", desc := "(I)V" } : Jvm.MethodName)) ∈ lw_all := lw_g (lw_at lw_m3 79 rfl) rfl
theorem q664 : (Jvm.Cond.code ({ cls := "TitheBarn$Parish", name := "gives", desc := "(I)V" } : Jvm.MethodName) prog_14_method_8_code (4 : Nat) (Option.none : Option Jvm.ClassFile.FieldType)) ∈ lw_all := lw_g (lw_at lw_m3 80 rfl) rfl
theorem q665 : (Jvm.Cond.methodLink "TitheBarn$Parish" (40 : Nat) ({ cls := "java/lang/Math", name := "min", desc := "(II)I" } : Jvm.MethodName)) ∈ lw_all := lw_g (lw_at lw_m3 81 rfl) rfl
theorem q668 : (Jvm.Cond.methodLink "TitheBarn$Parish" (46 : Nat) ({ cls := "TitheBarn$Parish", name := "dropsFirst", desc := "()V" } : Jvm.MethodName)) ∈ lw_all := lw_g (lw_at lw_m3 84 rfl) rfl
theorem q669 : (Jvm.Cond.privateMethod ({ cls := "TitheBarn$Parish", name := "dropsFirst", desc := "()V" } : Jvm.MethodName)) ∈ lw_tbl := lw_at lw_m3 85 rfl
theorem q670 : (Jvm.Cond.instanceMethod ({ cls := "TitheBarn$Parish", name := "dropsFirst", desc := "()V" } : Jvm.MethodName)) ∈ lw_all := lw_g (lw_at lw_m3 86 rfl) rfl
theorem q671 : (Jvm.Cond.code ({ cls := "TitheBarn$Parish", name := "dropsFirst", desc := "()V" } : Jvm.MethodName) prog_14_method_7_code (2 : Nat) (Option.none : Option Jvm.ClassFile.FieldType)) ∈ lw_all := lw_g (lw_at lw_m3 87 rfl) rfl
theorem q789 : (Jvm.Cond.instanceMethod ({ cls := "TitheBarn$Parish", name := "passes", desc := "(I)V" } : Jvm.MethodName)) ∈ lw_all := lw_g (lw_at lw_m3 205 rfl) rfl
theorem q790 : (Jvm.Cond.selects "TitheBarn$Parish" ({ cls := "TitheBarn$Parish", name := "passes", desc := "(I)V" } : Jvm.MethodName) ({ cls := "TitheBarn$Parish", name := "passes", desc := "(I)V" } : Jvm.MethodName)) ∈ lw_all := lw_g (lw_at lw_m3 206 rfl) rfl
theorem q791 : (Jvm.Cond.code ({ cls := "TitheBarn$Parish", name := "passes", desc := "(I)V" } : Jvm.MethodName) prog_14_method_9_code (2 : Nat) (Option.none : Option Jvm.ClassFile.FieldType)) ∈ lw_all := lw_g (lw_at lw_m3 207 rfl) rfl
theorem q1927 : (Jvm.Cond.castable "TitheBarn$Parish" "java/lang/Object") ∈ lw_tbl := lw_at lw_m8 143 rfl
theorem in_X2 : ∀ w ∈ wsX20, w ∈ lw_all := lw_in wsX20 [185, 187, 189, 191, 193, 195, 197] (by decide +kernel) (by decide +kernel)
/-! TitheBarn$Bay -/
def RX3 : String := "TitheBarn$Bay"
def TX3 : u_T := fun k => match k with
  | 0 => ("TitheBarn$Bay", "lots", "[LTitheBarn$Lot;", true)
  | 1 => ("TitheBarn$Bay", "many", "I", false)
  | _ => ("TitheBarn$Bay", "sheaves", "I", false)
def tyX3 : Nat → FieldType := fun k => match k with
  | 0 => .array (.object "TitheBarn$Lot")
  | 1 => .int
  | _ => .int
abbrev wsX30 : List Cond := u_ws RX3 TX3 3
theorem nmX3 : ∀ a, a < 3 → ∀ b, b < 3 → a ≠ b → (TX3 a).2.1 ≠ (TX3 b).2.1 := by decide +kernel
theorem tyX3_ok : ∀ k, k < 3 → parseFieldDescriptor (TX3 k).2.2.1 = some (tyX3 k) := by decide +kernel
abbrev cX3_init : ByteArray := prog_5_method_1_code
def yX3_init : MethodName := ⟨RX3, "<init>", "()V"⟩
abbrev cX3_clear : ByteArray := prog_5_method_3_code
def yX3_clear : MethodName := ⟨RX3, "clear", "()V"⟩
abbrev cX3_like : ByteArray := prog_5_method_4_code
def yX3_like : MethodName := ⟨RX3, "like", "(LTitheBarn$Bay;)V"⟩
abbrev cX3_puts : ByteArray := prog_5_method_5_code
def yX3_puts : MethodName := ⟨RX3, "puts", "(II)V"⟩
abbrev cX3_takes : ByteArray := prog_5_method_6_code
def yX3_takes : MethodName := ⟨RX3, "takes", "()I"⟩
abbrev cX3_iterator : ByteArray := prog_5_method_2_code
def yX3_iterator : MethodName := ⟨RX3, "iterator", "()Ljava/util/Iterator;"⟩
theorem q108 : (Jvm.Cond.initialized "TitheBarn$Bay") ∈ lw_all := lw_g (lw_at lw_m1 4 rfl) rfl
theorem q201 : (Jvm.Cond.instantiable "TitheBarn$Bay" (3 : Nat)) ∈ lw_all := lw_g (lw_at lw_m1 97 rfl) rfl
theorem q203 : (Jvm.Cond.instanceMethod ({ cls := "TitheBarn$Bay", name := "<init>", desc := "()V" } : Jvm.MethodName)) ∈ lw_all := lw_g (lw_at lw_m1 99 rfl) rfl
theorem q204 : (Jvm.Cond.code ({ cls := "TitheBarn$Bay", name := "<init>", desc := "()V" } : Jvm.MethodName) prog_5_method_1_code (2 : Nat) (Option.none : Option Jvm.ClassFile.FieldType)) ∈ lw_all := lw_g (lw_at lw_m1 100 rfl) rfl
theorem q205 : (Jvm.Cond.methodLink "TitheBarn$Bay" (3 : Nat) ({ cls := "java/lang/Object", name := "<init>", desc := "()V" } : Jvm.MethodName)) ∈ lw_all := lw_g (lw_at lw_m1 101 rfl) rfl
theorem q206 : (Jvm.Cond.classLink "TitheBarn$Bay" (9 : Nat) "TitheBarn$Lot") ∈ lw_all := lw_g (lw_at lw_m1 102 rfl) rfl
theorem q209 : (Jvm.Cond.methodLink "TitheBarn$Bay" (17 : Nat) ({ cls := "TitheBarn$Lot", name := "<init>", desc := "()V" } : Jvm.MethodName)) ∈ lw_all := lw_g (lw_at lw_m1 105 rfl) rfl
theorem q217 : (Jvm.Cond.fieldLinkNest "TitheBarn$Bay" (30 : Nat) "TitheBarn$Lot" "parish" "I" "TitheBarn") ∈ lw_tbl := lw_at lw_m1 113 rfl
theorem q222 : (Jvm.Cond.fieldLinkNest "TitheBarn$Bay" (33 : Nat) "TitheBarn$Lot" "sheaves" "I" "TitheBarn") ∈ lw_tbl := lw_at lw_m1 118 rfl
theorem q229 : (Jvm.Cond.fieldLink "TitheBarn$Bay" (11 : Nat) "TitheBarn$Bay" "lots" "[LTitheBarn$Lot;") ∈ lw_all := lw_g (lw_at lw_m1 125 rfl) rfl
theorem q233 : (Jvm.Cond.fieldLink "TitheBarn$Bay" (23 : Nat) "TitheBarn$Bay" "many" "I") ∈ lw_all := lw_g (lw_at lw_m1 129 rfl) rfl
theorem q235 : (Jvm.Cond.fieldLink "TitheBarn$Bay" (27 : Nat) "TitheBarn$Bay" "sheaves" "I") ∈ lw_all := lw_g (lw_at lw_m1 131 rfl) rfl
theorem q238 : (Jvm.Cond.laysFinal "TitheBarn$Bay" "TitheBarn$Bay" "lots" "[LTitheBarn$Lot;") ∈ lw_all := lw_g (lw_at lw_m1 134 rfl) rfl
theorem q239 : (Jvm.Cond.soleField "TitheBarn$Bay" "lots") ∈ lw_all := lw_g (lw_at lw_m1 135 rfl) rfl
theorem q240 : (Jvm.Cond.lays "TitheBarn$Bay" "TitheBarn$Bay" "many" "I") ∈ lw_all := lw_g (lw_at lw_m1 136 rfl) rfl
theorem q241 : (Jvm.Cond.soleField "TitheBarn$Bay" "many") ∈ lw_all := lw_g (lw_at lw_m1 137 rfl) rfl
theorem q242 : (Jvm.Cond.lays "TitheBarn$Bay" "TitheBarn$Bay" "sheaves" "I") ∈ lw_all := lw_g (lw_at lw_m1 138 rfl) rfl
theorem q243 : (Jvm.Cond.soleField "TitheBarn$Bay" "sheaves") ∈ lw_all := lw_g (lw_at lw_m1 139 rfl) rfl
theorem q244 : (Jvm.Cond.superclass "TitheBarn$Bay" "java/lang/Object") ∈ lw_all := lw_g (lw_at lw_m1 140 rfl) rfl
theorem q447 : (Jvm.Cond.instanceMethod ({ cls := "TitheBarn$Bay", name := "clear", desc := "()V" } : Jvm.MethodName)) ∈ lw_all := lw_g (lw_at lw_m2 103 rfl) rfl
theorem q448 : (Jvm.Cond.selects "TitheBarn$Bay" ({ cls := "TitheBarn$Bay", name := "clear", desc := "()V" } : Jvm.MethodName) ({ cls := "TitheBarn$Bay", name := "clear", desc := "()V" } : Jvm.MethodName)) ∈ lw_all := lw_g (lw_at lw_m2 104 rfl) rfl
theorem q449 : (Jvm.Cond.code ({ cls := "TitheBarn$Bay", name := "clear", desc := "()V" } : Jvm.MethodName) prog_5_method_3_code (1 : Nat) (Option.none : Option Jvm.ClassFile.FieldType)) ∈ lw_all := lw_g (lw_at lw_m2 105 rfl) rfl
theorem q484 : (Jvm.Cond.instanceMethod ({ cls := "TitheBarn$Bay", name := "like", desc := "(LTitheBarn$Bay;)V" } : Jvm.MethodName)) ∈ lw_all := lw_g (lw_at lw_m2 140 rfl) rfl
theorem q485 : (Jvm.Cond.selects "TitheBarn$Bay" ({ cls := "TitheBarn$Bay", name := "like", desc := "(LTitheBarn$Bay;)V" } : Jvm.MethodName) ({ cls := "TitheBarn$Bay", name := "like", desc := "(LTitheBarn$Bay;)V" } : Jvm.MethodName)) ∈ lw_all := lw_g (lw_at lw_m2 141 rfl) rfl
theorem q486 : (Jvm.Cond.code ({ cls := "TitheBarn$Bay", name := "like", desc := "(LTitheBarn$Bay;)V" } : Jvm.MethodName) prog_5_method_4_code (3 : Nat) (Option.none : Option Jvm.ClassFile.FieldType)) ∈ lw_all := lw_g (lw_at lw_m2 142 rfl) rfl
theorem q487 : (Jvm.Cond.methodLink "TitheBarn$Bay" (34 : Nat) ({ cls := "TitheBarn$Lot", name := "becomes", desc := "(II)V" } : Jvm.MethodName)) ∈ lw_all := lw_g (lw_at lw_m2 143 rfl) rfl
theorem q673 : (Jvm.Cond.instanceMethod ({ cls := "TitheBarn$Bay", name := "puts", desc := "(II)V" } : Jvm.MethodName)) ∈ lw_all := lw_g (lw_at lw_m3 89 rfl) rfl
theorem q674 : (Jvm.Cond.selects "TitheBarn$Bay" ({ cls := "TitheBarn$Bay", name := "puts", desc := "(II)V" } : Jvm.MethodName) ({ cls := "TitheBarn$Bay", name := "puts", desc := "(II)V" } : Jvm.MethodName)) ∈ lw_all := lw_g (lw_at lw_m3 90 rfl) rfl
theorem q675 : (Jvm.Cond.code ({ cls := "TitheBarn$Bay", name := "puts", desc := "(II)V" } : Jvm.MethodName) prog_5_method_5_code (3 : Nat) (Option.none : Option Jvm.ClassFile.FieldType)) ∈ lw_all := lw_g (lw_at lw_m3 91 rfl) rfl
theorem q697 : (Jvm.Cond.instanceMethod ({ cls := "TitheBarn$Bay", name := "takes", desc := "()I" } : Jvm.MethodName)) ∈ lw_all := lw_g (lw_at lw_m3 113 rfl) rfl
theorem q698 : (Jvm.Cond.selects "TitheBarn$Bay" ({ cls := "TitheBarn$Bay", name := "takes", desc := "()I" } : Jvm.MethodName) ({ cls := "TitheBarn$Bay", name := "takes", desc := "()I" } : Jvm.MethodName)) ∈ lw_all := lw_g (lw_at lw_m3 114 rfl) rfl
theorem q699 : (Jvm.Cond.code ({ cls := "TitheBarn$Bay", name := "takes", desc := "()I" } : Jvm.MethodName) prog_5_method_6_code (2 : Nat) (Option.some Jvm.ClassFile.FieldType.int)) ∈ lw_all := lw_g (lw_at lw_m3 115 rfl) rfl
theorem q1190 : (Jvm.Cond.instanceMethod ({ cls := "TitheBarn$Bay", name := "iterator", desc := "()Ljava/util/Iterator;" } : Jvm.MethodName)) ∈ lw_all := lw_g (lw_at lw_m5 126 rfl) rfl
theorem q1191 : (Jvm.Cond.selects "TitheBarn$Bay" ({ cls := "TitheBarn$Bay", name := "iterator", desc := "()Ljava/util/Iterator;" } : Jvm.MethodName) ({ cls := "TitheBarn$Bay", name := "iterator", desc := "()Ljava/util/Iterator;" } : Jvm.MethodName)) ∈ lw_all := lw_g (lw_at lw_m5 127 rfl) rfl
theorem q1192 : (Jvm.Cond.code ({ cls := "TitheBarn$Bay", name := "iterator", desc := "()Ljava/util/Iterator;" } : Jvm.MethodName) prog_5_method_2_code (1 : Nat) (Option.some (Jvm.ClassFile.FieldType.object "java/util/Iterator"))) ∈ lw_all := lw_g (lw_at lw_m5 128 rfl) rfl
theorem q1193 : (Jvm.Cond.classLink "TitheBarn$Bay" (18 : Nat) "TitheBarn$Bay$Climb") ∈ lw_all := lw_g (lw_at lw_m5 129 rfl) rfl
theorem q1195 : (Jvm.Cond.methodLinkNest "TitheBarn$Bay" (20 : Nat) ({ cls := "TitheBarn$Bay$Climb", name := "<init>", desc := "(LTitheBarn$Bay;)V" } : Jvm.MethodName) "TitheBarn") ∈ lw_tbl := lw_at lw_m5 131 rfl
theorem q1928 : (Jvm.Cond.castable "TitheBarn$Bay" "java/lang/Object") ∈ lw_tbl := lw_at lw_m8 144 rfl
theorem in_X3 : ∀ w ∈ wsX30, w ∈ lw_all := lw_in wsX30 [238, 240, 242] (by decide +kernel) (by decide +kernel)
/-! TitheBarn$Lot -/
def RX4 : String := "TitheBarn$Lot"
def TX4 : u_T := fun k => match k with
  | 0 => ("TitheBarn$Lot", "parish", "I", false)
  | _ => ("TitheBarn$Lot", "sheaves", "I", false)
def tyX4 : Nat → FieldType := fun k => match k with
  | 0 => .int
  | _ => .int
abbrev wsX40 : List Cond := u_ws RX4 TX4 2
theorem nmX4 : ∀ a, a < 2 → ∀ b, b < 2 → a ≠ b → (TX4 a).2.1 ≠ (TX4 b).2.1 := by decide +kernel
theorem tyX4_ok : ∀ k, k < 2 → parseFieldDescriptor (TX4 k).2.2.1 = some (tyX4 k) := by decide +kernel
abbrev cX4_init : ByteArray := prog_13_method_1_code
def yX4_init : MethodName := ⟨RX4, "<init>", "()V"⟩
abbrev cX4_init_2 : ByteArray := prog_13_method_2_code
def yX4_init_2 : MethodName := ⟨RX4, "<init>", "(II)V"⟩
abbrev cX4_becomes : ByteArray := prog_13_method_3_code
def yX4_becomes : MethodName := ⟨RX4, "becomes", "(II)V"⟩
theorem q109 : (Jvm.Cond.initialized "TitheBarn$Lot") ∈ lw_all := lw_g (lw_at lw_m1 5 rfl) rfl
theorem q208 : (Jvm.Cond.instantiable "TitheBarn$Lot" (2 : Nat)) ∈ lw_all := lw_g (lw_at lw_m1 104 rfl) rfl
theorem q210 : (Jvm.Cond.instanceMethod ({ cls := "TitheBarn$Lot", name := "<init>", desc := "()V" } : Jvm.MethodName)) ∈ lw_all := lw_g (lw_at lw_m1 106 rfl) rfl
theorem q211 : (Jvm.Cond.code ({ cls := "TitheBarn$Lot", name := "<init>", desc := "()V" } : Jvm.MethodName) prog_13_method_1_code (1 : Nat) (Option.none : Option Jvm.ClassFile.FieldType)) ∈ lw_all := lw_g (lw_at lw_m1 107 rfl) rfl
theorem q212 : (Jvm.Cond.methodLink "TitheBarn$Lot" (3 : Nat) ({ cls := "TitheBarn$Lot", name := "<init>", desc := "(II)V" } : Jvm.MethodName)) ∈ lw_all := lw_g (lw_at lw_m1 108 rfl) rfl
theorem q213 : (Jvm.Cond.instanceMethod ({ cls := "TitheBarn$Lot", name := "<init>", desc := "(II)V" } : Jvm.MethodName)) ∈ lw_all := lw_g (lw_at lw_m1 109 rfl) rfl
theorem q214 : (Jvm.Cond.code ({ cls := "TitheBarn$Lot", name := "<init>", desc := "(II)V" } : Jvm.MethodName) prog_13_method_2_code (3 : Nat) (Option.none : Option Jvm.ClassFile.FieldType)) ∈ lw_all := lw_g (lw_at lw_m1 110 rfl) rfl
theorem q215 : (Jvm.Cond.methodLink "TitheBarn$Lot" (9 : Nat) ({ cls := "java/lang/Object", name := "<init>", desc := "()V" } : Jvm.MethodName)) ∈ lw_all := lw_g (lw_at lw_m1 111 rfl) rfl
theorem q216 : (Jvm.Cond.fieldLink "TitheBarn$Lot" (14 : Nat) "TitheBarn$Lot" "parish" "I") ∈ lw_all := lw_g (lw_at lw_m1 112 rfl) rfl
theorem q220 : (Jvm.Cond.fieldLink "TitheBarn$Lot" (18 : Nat) "TitheBarn$Lot" "sheaves" "I") ∈ lw_all := lw_g (lw_at lw_m1 116 rfl) rfl
theorem q224 : (Jvm.Cond.lays "TitheBarn$Lot" "TitheBarn$Lot" "parish" "I") ∈ lw_all := lw_g (lw_at lw_m1 120 rfl) rfl
theorem q225 : (Jvm.Cond.soleField "TitheBarn$Lot" "parish") ∈ lw_all := lw_g (lw_at lw_m1 121 rfl) rfl
theorem q226 : (Jvm.Cond.lays "TitheBarn$Lot" "TitheBarn$Lot" "sheaves" "I") ∈ lw_all := lw_g (lw_at lw_m1 122 rfl) rfl
theorem q227 : (Jvm.Cond.soleField "TitheBarn$Lot" "sheaves") ∈ lw_all := lw_g (lw_at lw_m1 123 rfl) rfl
theorem q228 : (Jvm.Cond.superclass "TitheBarn$Lot" "java/lang/Object") ∈ lw_all := lw_g (lw_at lw_m1 124 rfl) rfl
theorem q488 : (Jvm.Cond.instanceMethod ({ cls := "TitheBarn$Lot", name := "becomes", desc := "(II)V" } : Jvm.MethodName)) ∈ lw_all := lw_g (lw_at lw_m2 144 rfl) rfl
theorem q489 : (Jvm.Cond.selects "TitheBarn$Lot" ({ cls := "TitheBarn$Lot", name := "becomes", desc := "(II)V" } : Jvm.MethodName) ({ cls := "TitheBarn$Lot", name := "becomes", desc := "(II)V" } : Jvm.MethodName)) ∈ lw_all := lw_g (lw_at lw_m2 145 rfl) rfl
theorem q490 : (Jvm.Cond.code ({ cls := "TitheBarn$Lot", name := "becomes", desc := "(II)V" } : Jvm.MethodName) prog_13_method_3_code (3 : Nat) (Option.none : Option Jvm.ClassFile.FieldType)) ∈ lw_all := lw_g (lw_at lw_m2 146 rfl) rfl
theorem q1929 : (Jvm.Cond.castable "TitheBarn$Lot" "java/lang/Object") ∈ lw_tbl := lw_at lw_m8 145 rfl
theorem in_X4 : ∀ w ∈ wsX40, w ∈ lw_all := lw_in wsX40 [224, 226] (by decide +kernel) (by decide +kernel)
/-! TitheBarn$Floor -/
def RX5 : String := "TitheBarn$Floor"
def TX5 : u_T := fun k => match k with
  | 0 => ("TitheBarn$Floor", "kind", "I", false)
  | 1 => ("TitheBarn$Floor", "sheaves", "I", false)
  | 2 => ("TitheBarn$Floor", "flails", "I", false)
  | _ => ("TitheBarn$Floor", "threshed", "I", false)
def tyX5 : Nat → FieldType := fun k => match k with
  | 0 => .int
  | 1 => .int
  | 2 => .int
  | _ => .int
abbrev wsX50 : List Cond := u_ws RX5 TX5 4
theorem nmX5 : ∀ a, a < 4 → ∀ b, b < 4 → a ≠ b → (TX5 a).2.1 ≠ (TX5 b).2.1 := by decide +kernel
theorem tyX5_ok : ∀ k, k < 4 → parseFieldDescriptor (TX5 k).2.2.1 = some (tyX5 k) := by decide +kernel
abbrev cX5_init : ByteArray := prog_11_method_1_code
def yX5_init : MethodName := ⟨RX5, "<init>", "()V"⟩
abbrev cX5_clear : ByteArray := prog_11_method_2_code
def yX5_clear : MethodName := ⟨RX5, "clear", "()V"⟩
abbrev cX5_like : ByteArray := prog_11_method_3_code
def yX5_like : MethodName := ⟨RX5, "like", "(LTitheBarn$Floor;)V"⟩
theorem q110 : (Jvm.Cond.initialized "TitheBarn$Floor") ∈ lw_all := lw_g (lw_at lw_m1 6 rfl) rfl
theorem q245 : (Jvm.Cond.instantiable "TitheBarn$Floor" (4 : Nat)) ∈ lw_all := lw_g (lw_at lw_m1 141 rfl) rfl
theorem q247 : (Jvm.Cond.instanceMethod ({ cls := "TitheBarn$Floor", name := "<init>", desc := "()V" } : Jvm.MethodName)) ∈ lw_all := lw_g (lw_at lw_m1 143 rfl) rfl
theorem q248 : (Jvm.Cond.code ({ cls := "TitheBarn$Floor", name := "<init>", desc := "()V" } : Jvm.MethodName) prog_11_method_1_code (1 : Nat) (Option.none : Option Jvm.ClassFile.FieldType)) ∈ lw_all := lw_g (lw_at lw_m1 144 rfl) rfl
theorem q249 : (Jvm.Cond.methodLink "TitheBarn$Floor" (1 : Nat) ({ cls := "java/lang/Object", name := "<init>", desc := "()V" } : Jvm.MethodName)) ∈ lw_all := lw_g (lw_at lw_m1 145 rfl) rfl
theorem q250 : (Jvm.Cond.fieldLink "TitheBarn$Floor" (13 : Nat) "TitheBarn$Floor" "kind" "I") ∈ lw_all := lw_g (lw_at lw_m1 146 rfl) rfl
theorem q253 : (Jvm.Cond.fieldLink "TitheBarn$Floor" (16 : Nat) "TitheBarn$Floor" "sheaves" "I") ∈ lw_all := lw_g (lw_at lw_m1 149 rfl) rfl
theorem q256 : (Jvm.Cond.fieldLink "TitheBarn$Floor" (7 : Nat) "TitheBarn$Floor" "flails" "I") ∈ lw_all := lw_g (lw_at lw_m1 152 rfl) rfl
theorem q259 : (Jvm.Cond.fieldLink "TitheBarn$Floor" (19 : Nat) "TitheBarn$Floor" "threshed" "I") ∈ lw_all := lw_g (lw_at lw_m1 155 rfl) rfl
theorem q262 : (Jvm.Cond.lays "TitheBarn$Floor" "TitheBarn$Floor" "kind" "I") ∈ lw_all := lw_g (lw_at lw_m1 158 rfl) rfl
theorem q263 : (Jvm.Cond.soleField "TitheBarn$Floor" "kind") ∈ lw_all := lw_g (lw_at lw_m1 159 rfl) rfl
theorem q264 : (Jvm.Cond.lays "TitheBarn$Floor" "TitheBarn$Floor" "sheaves" "I") ∈ lw_all := lw_g (lw_at lw_m1 160 rfl) rfl
theorem q265 : (Jvm.Cond.soleField "TitheBarn$Floor" "sheaves") ∈ lw_all := lw_g (lw_at lw_m1 161 rfl) rfl
theorem q266 : (Jvm.Cond.lays "TitheBarn$Floor" "TitheBarn$Floor" "flails" "I") ∈ lw_all := lw_g (lw_at lw_m1 162 rfl) rfl
theorem q267 : (Jvm.Cond.soleField "TitheBarn$Floor" "flails") ∈ lw_all := lw_g (lw_at lw_m1 163 rfl) rfl
theorem q268 : (Jvm.Cond.lays "TitheBarn$Floor" "TitheBarn$Floor" "threshed" "I") ∈ lw_all := lw_g (lw_at lw_m1 164 rfl) rfl
theorem q269 : (Jvm.Cond.soleField "TitheBarn$Floor" "threshed") ∈ lw_all := lw_g (lw_at lw_m1 165 rfl) rfl
theorem q270 : (Jvm.Cond.superclass "TitheBarn$Floor" "java/lang/Object") ∈ lw_all := lw_g (lw_at lw_m1 166 rfl) rfl
theorem q451 : (Jvm.Cond.instanceMethod ({ cls := "TitheBarn$Floor", name := "clear", desc := "()V" } : Jvm.MethodName)) ∈ lw_all := lw_g (lw_at lw_m2 107 rfl) rfl
theorem q452 : (Jvm.Cond.selects "TitheBarn$Floor" ({ cls := "TitheBarn$Floor", name := "clear", desc := "()V" } : Jvm.MethodName) ({ cls := "TitheBarn$Floor", name := "clear", desc := "()V" } : Jvm.MethodName)) ∈ lw_all := lw_g (lw_at lw_m2 108 rfl) rfl
theorem q453 : (Jvm.Cond.code ({ cls := "TitheBarn$Floor", name := "clear", desc := "()V" } : Jvm.MethodName) prog_11_method_2_code (1 : Nat) (Option.none : Option Jvm.ClassFile.FieldType)) ∈ lw_all := lw_g (lw_at lw_m2 109 rfl) rfl
theorem q492 : (Jvm.Cond.instanceMethod ({ cls := "TitheBarn$Floor", name := "like", desc := "(LTitheBarn$Floor;)V" } : Jvm.MethodName)) ∈ lw_all := lw_g (lw_at lw_m2 148 rfl) rfl
theorem q493 : (Jvm.Cond.selects "TitheBarn$Floor" ({ cls := "TitheBarn$Floor", name := "like", desc := "(LTitheBarn$Floor;)V" } : Jvm.MethodName) ({ cls := "TitheBarn$Floor", name := "like", desc := "(LTitheBarn$Floor;)V" } : Jvm.MethodName)) ∈ lw_all := lw_g (lw_at lw_m2 149 rfl) rfl
theorem q494 : (Jvm.Cond.code ({ cls := "TitheBarn$Floor", name := "like", desc := "(LTitheBarn$Floor;)V" } : Jvm.MethodName) prog_11_method_3_code (2 : Nat) (Option.none : Option Jvm.ClassFile.FieldType)) ∈ lw_all := lw_g (lw_at lw_m2 150 rfl) rfl
theorem q1930 : (Jvm.Cond.castable "TitheBarn$Floor" "java/lang/Object") ∈ lw_tbl := lw_at lw_m8 146 rfl
theorem in_X5 : ∀ w ∈ wsX50, w ∈ lw_all := lw_in wsX50 [262, 264, 266, 268] (by decide +kernel) (by decide +kernel)
/-! TitheBarn$Bin -/
def RX6 : String := "TitheBarn$Bin"
def TX6 : u_T := fun k => match k with
  | 0 => ("TitheBarn$Bin", "pints", "I", false)
  | 1 => ("TitheBarn$Bin", "price", "I", false)
  | 2 => ("TitheBarn$Bin", "bushels", "I", false)
  | 3 => ("TitheBarn$Bin", "sold", "I", false)
  | _ => ("TitheBarn$Bin", "came", "I", false)
def tyX6 : Nat → FieldType := fun k => match k with
  | 0 => .int
  | 1 => .int
  | 2 => .int
  | 3 => .int
  | _ => .int
abbrev wsX60 : List Cond := u_ws RX6 TX6 5
theorem nmX6 : ∀ a, a < 5 → ∀ b, b < 5 → a ≠ b → (TX6 a).2.1 ≠ (TX6 b).2.1 := by decide +kernel
theorem tyX6_ok : ∀ k, k < 5 → parseFieldDescriptor (TX6 k).2.2.1 = some (tyX6 k) := by decide +kernel
abbrev cX6_init : ByteArray := prog_7_method_1_code
def yX6_init : MethodName := ⟨RX6, "<init>", "()V"⟩
abbrev cX6_clear : ByteArray := prog_7_method_2_code
def yX6_clear : MethodName := ⟨RX6, "clear", "()V"⟩
abbrev cX6_like : ByteArray := prog_7_method_3_code
def yX6_like : MethodName := ⟨RX6, "like", "(LTitheBarn$Bin;)V"⟩
theorem q111 : (Jvm.Cond.initialized "TitheBarn$Bin") ∈ lw_all := lw_g (lw_at lw_m1 7 rfl) rfl
theorem q271 : (Jvm.Cond.instantiable "TitheBarn$Bin" (5 : Nat)) ∈ lw_all := lw_g (lw_at lw_m1 167 rfl) rfl
theorem q273 : (Jvm.Cond.instanceMethod ({ cls := "TitheBarn$Bin", name := "<init>", desc := "()V" } : Jvm.MethodName)) ∈ lw_all := lw_g (lw_at lw_m1 169 rfl) rfl
theorem q274 : (Jvm.Cond.code ({ cls := "TitheBarn$Bin", name := "<init>", desc := "()V" } : Jvm.MethodName) prog_7_method_1_code (1 : Nat) (Option.none : Option Jvm.ClassFile.FieldType)) ∈ lw_all := lw_g (lw_at lw_m1 170 rfl) rfl
theorem q275 : (Jvm.Cond.methodLink "TitheBarn$Bin" (1 : Nat) ({ cls := "java/lang/Object", name := "<init>", desc := "()V" } : Jvm.MethodName)) ∈ lw_all := lw_g (lw_at lw_m1 171 rfl) rfl
theorem q276 : (Jvm.Cond.fieldLink "TitheBarn$Bin" (13 : Nat) "TitheBarn$Bin" "pints" "I") ∈ lw_all := lw_g (lw_at lw_m1 172 rfl) rfl
theorem q279 : (Jvm.Cond.fieldLink "TitheBarn$Bin" (7 : Nat) "TitheBarn$Bin" "price" "I") ∈ lw_all := lw_g (lw_at lw_m1 175 rfl) rfl
theorem q281 : (Jvm.Cond.fieldLink "TitheBarn$Bin" (16 : Nat) "TitheBarn$Bin" "bushels" "I") ∈ lw_all := lw_g (lw_at lw_m1 177 rfl) rfl
theorem q283 : (Jvm.Cond.fieldLink "TitheBarn$Bin" (19 : Nat) "TitheBarn$Bin" "sold" "I") ∈ lw_all := lw_g (lw_at lw_m1 179 rfl) rfl
theorem q285 : (Jvm.Cond.fieldLink "TitheBarn$Bin" (22 : Nat) "TitheBarn$Bin" "came" "I") ∈ lw_all := lw_g (lw_at lw_m1 181 rfl) rfl
theorem q288 : (Jvm.Cond.lays "TitheBarn$Bin" "TitheBarn$Bin" "pints" "I") ∈ lw_all := lw_g (lw_at lw_m1 184 rfl) rfl
theorem q289 : (Jvm.Cond.soleField "TitheBarn$Bin" "pints") ∈ lw_all := lw_g (lw_at lw_m1 185 rfl) rfl
theorem q290 : (Jvm.Cond.lays "TitheBarn$Bin" "TitheBarn$Bin" "price" "I") ∈ lw_all := lw_g (lw_at lw_m1 186 rfl) rfl
theorem q291 : (Jvm.Cond.soleField "TitheBarn$Bin" "price") ∈ lw_all := lw_g (lw_at lw_m1 187 rfl) rfl
theorem q292 : (Jvm.Cond.lays "TitheBarn$Bin" "TitheBarn$Bin" "bushels" "I") ∈ lw_all := lw_g (lw_at lw_m1 188 rfl) rfl
theorem q293 : (Jvm.Cond.soleField "TitheBarn$Bin" "bushels") ∈ lw_all := lw_g (lw_at lw_m1 189 rfl) rfl
theorem q294 : (Jvm.Cond.lays "TitheBarn$Bin" "TitheBarn$Bin" "sold" "I") ∈ lw_all := lw_g (lw_at lw_m1 190 rfl) rfl
theorem q295 : (Jvm.Cond.soleField "TitheBarn$Bin" "sold") ∈ lw_all := lw_g (lw_at lw_m1 191 rfl) rfl
theorem q296 : (Jvm.Cond.lays "TitheBarn$Bin" "TitheBarn$Bin" "came" "I") ∈ lw_all := lw_g (lw_at lw_m1 192 rfl) rfl
theorem q297 : (Jvm.Cond.soleField "TitheBarn$Bin" "came") ∈ lw_all := lw_g (lw_at lw_m1 193 rfl) rfl
theorem q298 : (Jvm.Cond.superclass "TitheBarn$Bin" "java/lang/Object") ∈ lw_all := lw_g (lw_at lw_m1 194 rfl) rfl
theorem q455 : (Jvm.Cond.instanceMethod ({ cls := "TitheBarn$Bin", name := "clear", desc := "()V" } : Jvm.MethodName)) ∈ lw_all := lw_g (lw_at lw_m2 111 rfl) rfl
theorem q456 : (Jvm.Cond.selects "TitheBarn$Bin" ({ cls := "TitheBarn$Bin", name := "clear", desc := "()V" } : Jvm.MethodName) ({ cls := "TitheBarn$Bin", name := "clear", desc := "()V" } : Jvm.MethodName)) ∈ lw_all := lw_g (lw_at lw_m2 112 rfl) rfl
theorem q457 : (Jvm.Cond.code ({ cls := "TitheBarn$Bin", name := "clear", desc := "()V" } : Jvm.MethodName) prog_7_method_2_code (1 : Nat) (Option.none : Option Jvm.ClassFile.FieldType)) ∈ lw_all := lw_g (lw_at lw_m2 113 rfl) rfl
theorem q496 : (Jvm.Cond.instanceMethod ({ cls := "TitheBarn$Bin", name := "like", desc := "(LTitheBarn$Bin;)V" } : Jvm.MethodName)) ∈ lw_all := lw_g (lw_at lw_m2 152 rfl) rfl
theorem q497 : (Jvm.Cond.selects "TitheBarn$Bin" ({ cls := "TitheBarn$Bin", name := "like", desc := "(LTitheBarn$Bin;)V" } : Jvm.MethodName) ({ cls := "TitheBarn$Bin", name := "like", desc := "(LTitheBarn$Bin;)V" } : Jvm.MethodName)) ∈ lw_all := lw_g (lw_at lw_m2 153 rfl) rfl
theorem q498 : (Jvm.Cond.code ({ cls := "TitheBarn$Bin", name := "like", desc := "(LTitheBarn$Bin;)V" } : Jvm.MethodName) prog_7_method_3_code (2 : Nat) (Option.none : Option Jvm.ClassFile.FieldType)) ∈ lw_all := lw_g (lw_at lw_m2 154 rfl) rfl
theorem q1931 : (Jvm.Cond.castable "TitheBarn$Bin" "java/lang/Object") ∈ lw_tbl := lw_at lw_m8 147 rfl
theorem in_X6 : ∀ w ∈ wsX60, w ∈ lw_all := lw_in wsX60 [288, 290, 292, 294, 296] (by decide +kernel) (by decide +kernel)
/-! TitheBarn$Place -/
def RX7 : String := "TitheBarn$Place"
def TX7 : u_T := fun k => match k with
  | 0 => ("TitheBarn$Place", "gaps", "I", false)
  | 1 => ("TitheBarn$Place", "rats", "I", false)
  | _ => ("TitheBarn$Place", "eaten", "I", false)
def tyX7 : Nat → FieldType := fun k => match k with
  | 0 => .int
  | 1 => .int
  | _ => .int
abbrev wsX70 : List Cond := u_ws RX7 TX7 3
theorem nmX7 : ∀ a, a < 3 → ∀ b, b < 3 → a ≠ b → (TX7 a).2.1 ≠ (TX7 b).2.1 := by decide +kernel
theorem tyX7_ok : ∀ k, k < 3 → parseFieldDescriptor (TX7 k).2.2.1 = some (tyX7 k) := by decide +kernel
abbrev cX7_init : ByteArray := prog_15_method_1_code
def yX7_init : MethodName := ⟨RX7, "<init>", "()V"⟩
abbrev cX7_clear : ByteArray := prog_15_method_2_code
def yX7_clear : MethodName := ⟨RX7, "clear", "()V"⟩
abbrev cX7_like : ByteArray := prog_15_method_3_code
def yX7_like : MethodName := ⟨RX7, "like", "(LTitheBarn$Place;)V"⟩
abbrev cX7_breeds : ByteArray := prog_15_method_4_code
def yX7_breeds : MethodName := ⟨RX7, "breeds", "(ZZ)V"⟩
theorem q112 : (Jvm.Cond.initialized "TitheBarn$Place") ∈ lw_all := lw_g (lw_at lw_m1 8 rfl) rfl
theorem q299 : (Jvm.Cond.instantiable "TitheBarn$Place" (3 : Nat)) ∈ lw_all := lw_g (lw_at lw_m1 195 rfl) rfl
theorem q301 : (Jvm.Cond.instanceMethod ({ cls := "TitheBarn$Place", name := "<init>", desc := "()V" } : Jvm.MethodName)) ∈ lw_all := lw_g (lw_at lw_m1 197 rfl) rfl
theorem q302 : (Jvm.Cond.code ({ cls := "TitheBarn$Place", name := "<init>", desc := "()V" } : Jvm.MethodName) prog_15_method_1_code (1 : Nat) (Option.none : Option Jvm.ClassFile.FieldType)) ∈ lw_all := lw_g (lw_at lw_m1 198 rfl) rfl
theorem q303 : (Jvm.Cond.methodLink "TitheBarn$Place" (3 : Nat) ({ cls := "java/lang/Object", name := "<init>", desc := "()V" } : Jvm.MethodName)) ∈ lw_all := lw_g (lw_at lw_m1 199 rfl) rfl
theorem q304 : (Jvm.Cond.fieldLink "TitheBarn$Place" (9 : Nat) "TitheBarn$Place" "gaps" "I") ∈ lw_all := lw_g (lw_at lw_m1 200 rfl) rfl
theorem q306 : (Jvm.Cond.fieldLink "TitheBarn$Place" (15 : Nat) "TitheBarn$Place" "rats" "I") ∈ lw_all := lw_g (lw_at lw_m1 202 rfl) rfl
theorem q309 : (Jvm.Cond.fieldLink "TitheBarn$Place" (18 : Nat) "TitheBarn$Place" "eaten" "I") ∈ lw_all := lw_g (lw_at lw_m1 205 rfl) rfl
theorem q312 : (Jvm.Cond.lays "TitheBarn$Place" "TitheBarn$Place" "gaps" "I") ∈ lw_all := lw_g (lw_at lw_m1 208 rfl) rfl
theorem q313 : (Jvm.Cond.soleField "TitheBarn$Place" "gaps") ∈ lw_all := lw_g (lw_at lw_m1 209 rfl) rfl
theorem q314 : (Jvm.Cond.lays "TitheBarn$Place" "TitheBarn$Place" "rats" "I") ∈ lw_all := lw_g (lw_at lw_m1 210 rfl) rfl
theorem q315 : (Jvm.Cond.soleField "TitheBarn$Place" "rats") ∈ lw_all := lw_g (lw_at lw_m1 211 rfl) rfl
theorem q316 : (Jvm.Cond.lays "TitheBarn$Place" "TitheBarn$Place" "eaten" "I") ∈ lw_all := lw_g (lw_at lw_m1 212 rfl) rfl
theorem q317 : (Jvm.Cond.soleField "TitheBarn$Place" "eaten") ∈ lw_all := lw_g (lw_at lw_m1 213 rfl) rfl
theorem q318 : (Jvm.Cond.superclass "TitheBarn$Place" "java/lang/Object") ∈ lw_all := lw_g (lw_at lw_m1 214 rfl) rfl
theorem q459 : (Jvm.Cond.instanceMethod ({ cls := "TitheBarn$Place", name := "clear", desc := "()V" } : Jvm.MethodName)) ∈ lw_all := lw_g (lw_at lw_m2 115 rfl) rfl
theorem q460 : (Jvm.Cond.selects "TitheBarn$Place" ({ cls := "TitheBarn$Place", name := "clear", desc := "()V" } : Jvm.MethodName) ({ cls := "TitheBarn$Place", name := "clear", desc := "()V" } : Jvm.MethodName)) ∈ lw_all := lw_g (lw_at lw_m2 116 rfl) rfl
theorem q461 : (Jvm.Cond.code ({ cls := "TitheBarn$Place", name := "clear", desc := "()V" } : Jvm.MethodName) prog_15_method_2_code (1 : Nat) (Option.none : Option Jvm.ClassFile.FieldType)) ∈ lw_all := lw_g (lw_at lw_m2 117 rfl) rfl
theorem q500 : (Jvm.Cond.instanceMethod ({ cls := "TitheBarn$Place", name := "like", desc := "(LTitheBarn$Place;)V" } : Jvm.MethodName)) ∈ lw_all := lw_g (lw_at lw_m2 156 rfl) rfl
theorem q501 : (Jvm.Cond.selects "TitheBarn$Place" ({ cls := "TitheBarn$Place", name := "like", desc := "(LTitheBarn$Place;)V" } : Jvm.MethodName) ({ cls := "TitheBarn$Place", name := "like", desc := "(LTitheBarn$Place;)V" } : Jvm.MethodName)) ∈ lw_all := lw_g (lw_at lw_m2 157 rfl) rfl
theorem q502 : (Jvm.Cond.code ({ cls := "TitheBarn$Place", name := "like", desc := "(LTitheBarn$Place;)V" } : Jvm.MethodName) prog_15_method_3_code (2 : Nat) (Option.none : Option Jvm.ClassFile.FieldType)) ∈ lw_all := lw_g (lw_at lw_m2 158 rfl) rfl
theorem q781 : (Jvm.Cond.instanceMethod ({ cls := "TitheBarn$Place", name := "breeds", desc := "(ZZ)V" } : Jvm.MethodName)) ∈ lw_all := lw_g (lw_at lw_m3 197 rfl) rfl
theorem q782 : (Jvm.Cond.selects "TitheBarn$Place" ({ cls := "TitheBarn$Place", name := "breeds", desc := "(ZZ)V" } : Jvm.MethodName) ({ cls := "TitheBarn$Place", name := "breeds", desc := "(ZZ)V" } : Jvm.MethodName)) ∈ lw_all := lw_g (lw_at lw_m3 198 rfl) rfl
theorem q783 : (Jvm.Cond.code ({ cls := "TitheBarn$Place", name := "breeds", desc := "(ZZ)V" } : Jvm.MethodName) prog_15_method_4_code (3 : Nat) (Option.none : Option Jvm.ClassFile.FieldType)) ∈ lw_all := lw_g (lw_at lw_m3 199 rfl) rfl
theorem q784 : (Jvm.Cond.methodLinkNest "TitheBarn$Place" (21 : Nat) ({ cls := "TitheBarn", name := "half", desc := "(I)I" } : Jvm.MethodName) "TitheBarn") ∈ lw_tbl := lw_at lw_m3 200 rfl
theorem q787 : (Jvm.Cond.methodLink "TitheBarn$Place" (25 : Nat) ({ cls := "java/lang/Math", name := "min", desc := "(II)I" } : Jvm.MethodName)) ∈ lw_all := lw_g (lw_at lw_m3 203 rfl) rfl
theorem q1932 : (Jvm.Cond.castable "TitheBarn$Place" "java/lang/Object") ∈ lw_tbl := lw_at lw_m8 148 rfl
theorem in_X7 : ∀ w ∈ wsX70, w ∈ lw_all := lw_in wsX70 [312, 314, 316] (by decide +kernel) (by decide +kernel)
/-! TitheBarnModel -/
def RX8 : String := "TitheBarnModel"
def TX8 : u_T := fun k => match k with
  | 0 => ("TitheBarnModel", "now", "[I", true)
  | 1 => ("TitheBarnModel", "before", "[I", true)
  | 2 => ("TitheBarnModel", "asIs", "[I", true)
  | 3 => ("TitheBarnModel", "saved", "[I", true)
  | 4 => ("TitheBarnModel", "history", "[I", true)
  | 5 => ("TitheBarnModel", "isSaved", "Z", false)
  | 6 => ("TitheBarnModel", "remembered", "I", false)
  | 7 => ("TitheBarnModel", "links", "I", false)
  | 8 => ("TitheBarnModel", "reasons", "[I", true)
  | 9 => ("TitheBarnModel", "details", "[I", true)
  | 10 => ("TitheBarnModel", "input", "[I", true)
  | 11 => ("TitheBarnModel", "typed", "I", false)
  | 12 => ("TitheBarnModel", "faultAt", "I", false)
  | 13 => ("TitheBarnModel", "written", "[I", true)
  | 14 => ("TitheBarnModel", "lined", "I", false)
  | 15 => ("TitheBarnModel", "why", "I", false)
  | 16 => ("TitheBarnModel", "whys", "[I", true)
  | 17 => ("TitheBarnModel", "size", "I", false)
  | 18 => ("TitheBarnModel", "at", "I", false)
  | 19 => ("TitheBarnModel", "wrong", "I", false)
  | 20 => ("TitheBarnModel", "told", "I", false)
  | 21 => ("TitheBarnModel", "kinds", "[I", true)
  | _ => ("TitheBarnModel", "words", "[I", true)
def tyX8 : Nat → FieldType := fun k => match k with
  | 0 => .array .int
  | 1 => .array .int
  | 2 => .array .int
  | 3 => .array .int
  | 4 => .array .int
  | 5 => .boolean
  | 6 => .int
  | 7 => .int
  | 8 => .array .int
  | 9 => .array .int
  | 10 => .array .int
  | 11 => .int
  | 12 => .int
  | 13 => .array .int
  | 14 => .int
  | 15 => .int
  | 16 => .array .int
  | 17 => .int
  | 18 => .int
  | 19 => .int
  | 20 => .int
  | 21 => .array .int
  | _ => .array .int
abbrev wsX80 : List Cond := u_ws RX8 TX8 23
theorem nmX8 : ∀ a, a < 23 → ∀ b, b < 23 → a ≠ b → (TX8 a).2.1 ≠ (TX8 b).2.1 := by decide +kernel
theorem tyX8_ok : ∀ k, k < 23 → parseFieldDescriptor (TX8 k).2.2.1 = some (tyX8 k) := by decide +kernel
abbrev cX8_init : ByteArray := prog_22_method_1_code
def yX8_init : MethodName := ⟨RX8, "<init>", "()V"⟩
abbrev cX8_begins : ByteArray := prog_22_method_4_code
def yX8_begins : MethodName := ⟨RX8, "begins", "()V"⟩
abbrev cX8_clear : ByteArray := prog_22_method_5_code
def yX8_clear : MethodName := ⟨RX8, "clear", "()I"⟩
abbrev cX8_append : ByteArray := prog_22_method_6_code
def yX8_append : MethodName := ⟨RX8, "append", "(C)I"⟩
abbrev cX8_isIn : ByteArray := prog_22_method_2_code
def yX8_isIn : MethodName := ⟨RX8, "isIn", "(III)Z"⟩
abbrev cX8_reason : ByteArray := prog_22_method_13_code
def yX8_reason : MethodName := ⟨RX8, "reason", "(II)I"⟩
abbrev cX8_undo : ByteArray := prog_22_method_14_code
def yX8_undo : MethodName := ⟨RX8, "undo", "()I"⟩
abbrev cX8_copies : ByteArray := prog_22_method_3_code
def yX8_copies : MethodName := ⟨RX8, "copies", "([II[II)V"⟩
abbrev cX8_save : ByteArray := prog_22_method_15_code
def yX8_save : MethodName := ⟨RX8, "save", "()I"⟩
abbrev cX8_restore : ByteArray := prog_22_method_16_code
def yX8_restore : MethodName := ⟨RX8, "restore", "()I"⟩
abbrev cX8_parish : ByteArray := prog_22_method_22_code
def yX8_parish : MethodName := ⟨RX8, "parish", "(I)I"⟩
abbrev cX8_isKind : ByteArray := prog_22_method_18_code
def yX8_isKind : MethodName := ⟨RX8, "isKind", "(I)Z"⟩
abbrev cX8_starts : ByteArray := prog_22_method_10_code
def yX8_starts : MethodName := ⟨RX8, "starts", "()V"⟩
abbrev cX8_refuses : ByteArray := prog_22_method_7_code
def yX8_refuses : MethodName := ⟨RX8, "refuses", "(IIII)I"⟩
abbrev cX8_ends : ByteArray := prog_22_method_12_code
def yX8_ends : MethodName := ⟨RX8, "ends", "(I)I"⟩
abbrev cX8_keepsWhy : ByteArray := prog_22_method_9_code
def yX8_keepsWhy : MethodName := ⟨RX8, "keepsWhy", "(I)V"⟩
abbrev cX8_keeps : ByteArray := prog_22_method_8_code
def yX8_keeps : MethodName := ⟨RX8, "keeps", "(III)V"⟩
abbrev cX8_remembers : ByteArray := prog_22_method_11_code
def yX8_remembers : MethodName := ⟨RX8, "remembers", "(I)I"⟩
abbrev cX8_harvest : ByteArray := prog_22_method_25_code
def yX8_harvest : MethodName := ⟨RX8, "harvest", "(II)I"⟩
abbrev cX8_harvests : ByteArray := prog_22_method_24_code
def yX8_harvests : MethodName := ⟨RX8, "harvests", "(II)I"⟩
abbrev cX8_isParish : ByteArray := prog_22_method_19_code
def yX8_isParish : MethodName := ⟨RX8, "isParish", "(I)Z"⟩
abbrev cX8_becomeDue : ByteArray := prog_22_method_23_code
def yX8_becomeDue : MethodName := ⟨RX8, "becomeDue", "(II)I"⟩
abbrev cX8_of : ByteArray := prog_22_method_20_code
def yX8_of : MethodName := ⟨RX8, "of", "(II)I"⟩
abbrev cX8_tithe : ByteArray := prog_22_method_26_code
def yX8_tithe : MethodName := ⟨RX8, "tithe", "(II)I"⟩
abbrev cX8_titheAgain : ByteArray := prog_22_method_27_code
def yX8_titheAgain : MethodName := ⟨RX8, "titheAgain", "(II)I"⟩
abbrev cX8_cart : ByteArray := prog_22_method_34_code
def yX8_cart : MethodName := ⟨RX8, "cart", "(III)I"⟩
abbrev cX8_carts : ByteArray := prog_22_method_33_code
def yX8_carts : MethodName := ⟨RX8, "carts", "(III)I"⟩
abbrev cX8_isBay : ByteArray := prog_22_method_29_code
def yX8_isBay : MethodName := ⟨RX8, "isBay", "(I)Z"⟩
abbrev cX8_dueOf : ByteArray := prog_22_method_21_code
def yX8_dueOf : MethodName := ⟨RX8, "dueOf", "(I)I"⟩
abbrev cX8_inBay : ByteArray := prog_22_method_30_code
def yX8_inBay : MethodName := ⟨RX8, "inBay", "(I)I"⟩
abbrev cX8_dropsDue : ByteArray := prog_22_method_28_code
def yX8_dropsDue : MethodName := ⟨RX8, "dropsDue", "(I)V"⟩
abbrev cX8_pints : ByteArray := prog_22_method_17_code
def yX8_pints : MethodName := ⟨RX8, "pints", "(I)I"⟩
abbrev cX8_bayOf : ByteArray := prog_22_method_39_code
def yX8_bayOf : MethodName := ⟨RX8, "bayOf", "(II)I"⟩
abbrev cX8_lotsOf : ByteArray := prog_22_method_36_code
def yX8_lotsOf : MethodName := ⟨RX8, "lotsOf", "(I)I"⟩
abbrev cX8_sheaf : ByteArray := prog_22_method_31_code
def yX8_sheaf : MethodName := ⟨RX8, "sheaf", "(II)I"⟩
abbrev cX8_pintsIn : ByteArray := prog_22_method_37_code
def yX8_pintsIn : MethodName := ⟨RX8, "pintsIn", "(I)I"⟩
abbrev cX8_kindOf : ByteArray := prog_22_method_32_code
def yX8_kindOf : MethodName := ⟨RX8, "kindOf", "(II)I"⟩
abbrev cX8_parishesIn : ByteArray := prog_22_method_38_code
def yX8_parishesIn : MethodName := ⟨RX8, "parishesIn", "(I)I"⟩
abbrev cX8_lotOf : ByteArray := prog_22_method_42_code
def yX8_lotOf : MethodName := ⟨RX8, "lotOf", "(III)I"⟩
abbrev cX8_lotAt : ByteArray := prog_22_method_40_code
def yX8_lotAt : MethodName := ⟨RX8, "lotAt", "(II)I"⟩
abbrev cX8_lotSize : ByteArray := prog_22_method_41_code
def yX8_lotSize : MethodName := ⟨RX8, "lotSize", "(II)I"⟩
abbrev cX8_thresh : ByteArray := prog_22_method_48_code
def yX8_thresh : MethodName := ⟨RX8, "thresh", "(III)I"⟩
abbrev cX8_threshes : ByteArray := prog_22_method_47_code
def yX8_threshes : MethodName := ⟨RX8, "threshes", "(III)I"⟩
abbrev cX8_isFloor : ByteArray := prog_22_method_43_code
def yX8_isFloor : MethodName := ⟨RX8, "isFloor", "(I)Z"⟩
abbrev cX8_unlike : ByteArray := prog_22_method_46_code
def yX8_unlike : MethodName := ⟨RX8, "unlike", "(II)I"⟩
abbrev cX8_floor : ByteArray := prog_22_method_44_code
def yX8_floor : MethodName := ⟨RX8, "floor", "(II)I"⟩
abbrev cX8_takes : ByteArray := prog_22_method_35_code
def yX8_takes : MethodName := ⟨RX8, "takes", "(II)V"⟩
abbrev cX8_flails : ByteArray := prog_22_method_50_code
def yX8_flails : MethodName := ⟨RX8, "flails", "(II)I"⟩
abbrev cX8_becomes : ByteArray := prog_22_method_49_code
def yX8_becomes : MethodName := ⟨RX8, "becomes", "(II)I"⟩
abbrev cX8_price : ByteArray := prog_22_method_51_code
def yX8_price : MethodName := ⟨RX8, "price", "(II)I"⟩
abbrev cX8_floorOf : ByteArray := prog_22_method_52_code
def yX8_floorOf : MethodName := ⟨RX8, "floorOf", "(II)I"⟩
abbrev cX8_binOf : ByteArray := prog_22_method_53_code
def yX8_binOf : MethodName := ⟨RX8, "binOf", "(II)I"⟩
abbrev cX8_store : ByteArray := prog_22_method_45_code
def yX8_store : MethodName := ⟨RX8, "store", "(II)I"⟩
abbrev cX8_sell : ByteArray := prog_22_method_55_code
def yX8_sell : MethodName := ⟨RX8, "sell", "(III)I"⟩
abbrev cX8_sells : ByteArray := prog_22_method_54_code
def yX8_sells : MethodName := ⟨RX8, "sells", "(III)I"⟩
abbrev cX8_rats : ByteArray := prog_22_method_59_code
def yX8_rats : MethodName := ⟨RX8, "rats", "(I)I"⟩
abbrev cX8_settle : ByteArray := prog_22_method_57_code
def yX8_settle : MethodName := ⟨RX8, "settle", "(II)I"⟩
abbrev cX8_settles : ByteArray := prog_22_method_56_code
def yX8_settles : MethodName := ⟨RX8, "settles", "(II)I"⟩
abbrev cX8_stop : ByteArray := prog_22_method_61_code
def yX8_stop : MethodName := ⟨RX8, "stop", "(I)I"⟩
abbrev cX8_stops : ByteArray := prog_22_method_60_code
def yX8_stops : MethodName := ⟨RX8, "stops", "(I)I"⟩
abbrev cX8_isPlace : ByteArray := prog_22_method_58_code
def yX8_isPlace : MethodName := ⟨RX8, "isPlace", "(I)Z"⟩
abbrev cX8_cat : ByteArray := prog_22_method_63_code
def yX8_cat : MethodName := ⟨RX8, "cat", "(I)I"⟩
abbrev cX8_comes : ByteArray := prog_22_method_62_code
def yX8_comes : MethodName := ⟨RX8, "comes", "(I)I"⟩
abbrev cX8_placeOf : ByteArray := prog_22_method_64_code
def yX8_placeOf : MethodName := ⟨RX8, "placeOf", "(II)I"⟩
abbrev cX8_pass : ByteArray := prog_22_method_72_code
def yX8_pass : MethodName := ⟨RX8, "pass", "(I)I"⟩
abbrev cX8_passes : ByteArray := prog_22_method_71_code
def yX8_passes : MethodName := ⟨RX8, "passes", "(I)I"⟩
abbrev cX8_day : ByteArray := prog_22_method_70_code
def yX8_day : MethodName := ⟨RX8, "day", "()I"⟩
abbrev cX8_threshedOn : ByteArray := prog_22_method_65_code
def yX8_threshedOn : MethodName := ⟨RX8, "threshedOn", "(I)I"⟩
abbrev cX8_eats : ByteArray := prog_22_method_68_code
def yX8_eats : MethodName := ⟨RX8, "eats", "(I)V"⟩
abbrev cX8_eatInBay : ByteArray := prog_22_method_66_code
def yX8_eatInBay : MethodName := ⟨RX8, "eatInBay", "(I)I"⟩
abbrev cX8_eatInBin : ByteArray := prog_22_method_67_code
def yX8_eatInBin : MethodName := ⟨RX8, "eatInBin", "(I)I"⟩
abbrev cX8_falls : ByteArray := prog_22_method_69_code
def yX8_falls : MethodName := ⟨RX8, "falls", "(I)V"⟩
abbrev cX8_lasts : ByteArray := prog_22_method_73_code
def yX8_lasts : MethodName := ⟨RX8, "lasts", "(I)I"⟩
abbrev cX8_bestCat : ByteArray := prog_22_method_75_code
def yX8_bestCat : MethodName := ⟨RX8, "bestCat", "(I)I"⟩
abbrev cX8_eatenWith : ByteArray := prog_22_method_74_code
def yX8_eatenWith : MethodName := ⟨RX8, "eatenWith", "(I)I"⟩
abbrev cX8_ranked : ByteArray := prog_22_method_78_code
def yX8_ranked : MethodName := ⟨RX8, "ranked", "(I)I"⟩
abbrev cX8_rankOf : ByteArray := prog_22_method_77_code
def yX8_rankOf : MethodName := ⟨RX8, "rankOf", "(I)I"⟩
abbrev cX8_isAhead : ByteArray := prog_22_method_76_code
def yX8_isAhead : MethodName := ⟨RX8, "isAhead", "(II)Z"⟩
abbrev cX8_parishOf : ByteArray := prog_22_method_80_code
def yX8_parishOf : MethodName := ⟨RX8, "parishOf", "(II)I"⟩
abbrev cX8_inBays : ByteArray := prog_22_method_79_code
def yX8_inBays : MethodName := ⟨RX8, "inBays", "(I)I"⟩
abbrev cX8_grain : ByteArray := prog_22_method_82_code
def yX8_grain : MethodName := ⟨RX8, "grain", "(I)I"⟩
abbrev cX8_sum : ByteArray := prog_22_method_81_code
def yX8_sum : MethodName := ⟨RX8, "sum", "(I)I"⟩
abbrev cX8_grainAgain : ByteArray := prog_22_method_83_code
def yX8_grainAgain : MethodName := ⟨RX8, "grainAgain", "()I"⟩
abbrev cX8_share : ByteArray := prog_22_method_85_code
def yX8_share : MethodName := ⟨RX8, "share", "(I)F"⟩
abbrev cX8_total : ByteArray := prog_22_method_84_code
def yX8_total : MethodName := ⟨RX8, "total", "(I)I"⟩
abbrev cX8_meanRats : ByteArray := prog_22_method_87_code
def yX8_meanRats : MethodName := ⟨RX8, "meanRats", "()D"⟩
abbrev cX8_allAt : ByteArray := prog_22_method_86_code
def yX8_allAt : MethodName := ⟨RX8, "allAt", "(I)I"⟩
abbrev cX8_script : ByteArray := prog_22_method_97_code
def yX8_script : MethodName := ⟨RX8, "script", "()I"⟩
abbrev cX8_readsAll : ByteArray := prog_22_method_95_code
def yX8_readsAll : MethodName := ⟨RX8, "readsAll", "()V"⟩
abbrev cX8_readsCommand : ByteArray := prog_22_method_94_code
def yX8_readsCommand : MethodName := ⟨RX8, "readsCommand", "()V"⟩
abbrev cX8_sign : ByteArray := prog_22_method_88_code
def yX8_sign : MethodName := ⟨RX8, "sign", "()I"⟩
abbrev cX8_reads : ByteArray := prog_22_method_89_code
def yX8_reads : MethodName := ⟨RX8, "reads", "(II)I"⟩
abbrev cX8_tells : ByteArray := prog_22_method_91_code
def yX8_tells : MethodName := ⟨RX8, "tells", "(II)V"⟩
abbrev cX8_number : ByteArray := prog_22_method_90_code
def yX8_number : MethodName := ⟨RX8, "number", "()I"⟩
abbrev cX8_readsSale : ByteArray := prog_22_method_93_code
def yX8_readsSale : MethodName := ⟨RX8, "readsSale", "()V"⟩
abbrev cX8_readsKind : ByteArray := prog_22_method_92_code
def yX8_readsKind : MethodName := ⟨RX8, "readsKind", "()I"⟩
abbrev cX8_does : ByteArray := prog_22_method_96_code
def yX8_does : MethodName := ⟨RX8, "does", "(IIII)I"⟩
abbrev cX8_fault : ByteArray := prog_22_method_98_code
def yX8_fault : MethodName := ⟨RX8, "fault", "()I"⟩
abbrev cX8_describe : ByteArray := prog_22_method_101_code
def yX8_describe : MethodName := ⟨RX8, "describe", "(I)I"⟩
abbrev cX8_writes : ByteArray := prog_22_method_100_code
def yX8_writes : MethodName := ⟨RX8, "writes", "(II)I"⟩
abbrev cX8_put : ByteArray := prog_22_method_99_code
def yX8_put : MethodName := ⟨RX8, "put", "(II)I"⟩
abbrev cX8_written : ByteArray := prog_22_method_102_code
def yX8_written : MethodName := ⟨RX8, "written", "(I)I"⟩
abbrev cX8_account : ByteArray := prog_22_method_106_code
def yX8_account : MethodName := ⟨RX8, "account", "(I)I"⟩
abbrev cX8_allInBays : ByteArray := prog_22_method_104_code
def yX8_allInBays : MethodName := ⟨RX8, "allInBays", "()I"⟩
abbrev cX8_onFloors : ByteArray := prog_22_method_103_code
def yX8_onFloors : MethodName := ⟨RX8, "onFloors", "()I"⟩
abbrev cX8_bushels : ByteArray := prog_22_method_105_code
def yX8_bushels : MethodName := ⟨RX8, "bushels", "()I"⟩
theorem q117 : (Jvm.Cond.initialized "TitheBarnModel") ∈ lw_all := lw_g (lw_at lw_m1 13 rfl) rfl
theorem q1422 : (Jvm.Cond.instantiable "TitheBarnModel" (23 : Nat)) ∈ lw_all := lw_g (lw_at lw_m6 118 rfl) rfl
theorem q1424 : (Jvm.Cond.instanceMethod ({ cls := "TitheBarnModel", name := "<init>", desc := "()V" } : Jvm.MethodName)) ∈ lw_all := lw_g (lw_at lw_m6 120 rfl) rfl
theorem q1425 : (Jvm.Cond.code ({ cls := "TitheBarnModel", name := "<init>", desc := "()V" } : Jvm.MethodName) prog_22_method_1_code (1 : Nat) (Option.none : Option Jvm.ClassFile.FieldType)) ∈ lw_all := lw_g (lw_at lw_m6 121 rfl) rfl
theorem q1426 : (Jvm.Cond.methodLink "TitheBarnModel" (3 : Nat) ({ cls := "java/lang/Object", name := "<init>", desc := "()V" } : Jvm.MethodName)) ∈ lw_all := lw_g (lw_at lw_m6 122 rfl) rfl
theorem q1427 : (Jvm.Cond.methodLink "TitheBarnModel" (50 : Nat) ({ cls := "TitheBarnModel", name := "begins", desc := "()V" } : Jvm.MethodName)) ∈ lw_all := lw_g (lw_at lw_m6 123 rfl) rfl
theorem q1428 : (Jvm.Cond.privateMethod ({ cls := "TitheBarnModel", name := "begins", desc := "()V" } : Jvm.MethodName)) ∈ lw_tbl := lw_at lw_m6 124 rfl
theorem q1429 : (Jvm.Cond.instanceMethod ({ cls := "TitheBarnModel", name := "begins", desc := "()V" } : Jvm.MethodName)) ∈ lw_all := lw_g (lw_at lw_m6 125 rfl) rfl
theorem q1430 : (Jvm.Cond.code ({ cls := "TitheBarnModel", name := "begins", desc := "()V" } : Jvm.MethodName) prog_22_method_4_code (2 : Nat) (Option.none : Option Jvm.ClassFile.FieldType)) ∈ lw_all := lw_g (lw_at lw_m6 126 rfl) rfl
theorem q1431 : (Jvm.Cond.fieldLink "TitheBarnModel" (9 : Nat) "TitheBarnModel" "now" "[I") ∈ lw_all := lw_g (lw_at lw_m6 127 rfl) rfl
theorem q1432 : (Jvm.Cond.fieldLink "TitheBarnModel" (13 : Nat) "TitheBarnModel" "before" "[I") ∈ lw_all := lw_g (lw_at lw_m6 128 rfl) rfl
theorem q1433 : (Jvm.Cond.fieldLink "TitheBarnModel" (16 : Nat) "TitheBarnModel" "asIs" "[I") ∈ lw_all := lw_g (lw_at lw_m6 129 rfl) rfl
theorem q1434 : (Jvm.Cond.fieldLink "TitheBarnModel" (19 : Nat) "TitheBarnModel" "saved" "[I") ∈ lw_all := lw_g (lw_at lw_m6 130 rfl) rfl
theorem q1435 : (Jvm.Cond.fieldLink "TitheBarnModel" (22 : Nat) "TitheBarnModel" "history" "[I") ∈ lw_all := lw_g (lw_at lw_m6 131 rfl) rfl
theorem q1436 : (Jvm.Cond.fieldLink "TitheBarnModel" (85 : Nat) "TitheBarnModel" "isSaved" "Z") ∈ lw_all := lw_g (lw_at lw_m6 132 rfl) rfl
theorem q1437 : (Jvm.Cond.fieldLink "TitheBarnModel" (53 : Nat) "TitheBarnModel" "remembered" "I") ∈ lw_all := lw_g (lw_at lw_m6 133 rfl) rfl
theorem q1438 : (Jvm.Cond.fieldLink "TitheBarnModel" (66 : Nat) "TitheBarnModel" "links" "I") ∈ lw_all := lw_g (lw_at lw_m6 134 rfl) rfl
theorem q1439 : (Jvm.Cond.fieldLink "TitheBarnModel" (25 : Nat) "TitheBarnModel" "reasons" "[I") ∈ lw_all := lw_g (lw_at lw_m6 135 rfl) rfl
theorem q1440 : (Jvm.Cond.fieldLink "TitheBarnModel" (28 : Nat) "TitheBarnModel" "details" "[I") ∈ lw_all := lw_g (lw_at lw_m6 136 rfl) rfl
theorem q1441 : (Jvm.Cond.fieldLink "TitheBarnModel" (31 : Nat) "TitheBarnModel" "input" "[I") ∈ lw_all := lw_g (lw_at lw_m6 137 rfl) rfl
theorem q1442 : (Jvm.Cond.fieldLink "TitheBarnModel" (60 : Nat) "TitheBarnModel" "typed" "I") ∈ lw_all := lw_g (lw_at lw_m6 138 rfl) rfl
theorem q1443 : (Jvm.Cond.fieldLink "TitheBarnModel" (34 : Nat) "TitheBarnModel" "faultAt" "I") ∈ lw_all := lw_g (lw_at lw_m6 139 rfl) rfl
theorem q1444 : (Jvm.Cond.fieldLink "TitheBarnModel" (38 : Nat) "TitheBarnModel" "written" "[I") ∈ lw_all := lw_g (lw_at lw_m6 140 rfl) rfl
theorem q1445 : (Jvm.Cond.fieldLink "TitheBarnModel" (298 : Nat) "TitheBarnModel" "lined" "I") ∈ lw_all := lw_g (lw_at lw_m6 141 rfl) rfl
theorem q1446 : (Jvm.Cond.fieldLink "TitheBarnModel" (63 : Nat) "TitheBarnModel" "why" "I") ∈ lw_all := lw_g (lw_at lw_m6 142 rfl) rfl
theorem q1447 : (Jvm.Cond.fieldLink "TitheBarnModel" (41 : Nat) "TitheBarnModel" "whys" "[I") ∈ lw_all := lw_g (lw_at lw_m6 143 rfl) rfl
theorem q1448 : (Jvm.Cond.fieldLink "TitheBarnModel" (256 : Nat) "TitheBarnModel" "size" "I") ∈ lw_all := lw_g (lw_at lw_m6 144 rfl) rfl
theorem q1449 : (Jvm.Cond.fieldLink "TitheBarnModel" (253 : Nat) "TitheBarnModel" "at" "I") ∈ lw_all := lw_g (lw_at lw_m6 145 rfl) rfl
theorem q1450 : (Jvm.Cond.fieldLink "TitheBarnModel" (259 : Nat) "TitheBarnModel" "wrong" "I") ∈ lw_all := lw_g (lw_at lw_m6 146 rfl) rfl
theorem q1451 : (Jvm.Cond.fieldLink "TitheBarnModel" (268 : Nat) "TitheBarnModel" "told" "I") ∈ lw_all := lw_g (lw_at lw_m6 147 rfl) rfl
theorem q1452 : (Jvm.Cond.fieldLink "TitheBarnModel" (44 : Nat) "TitheBarnModel" "kinds" "[I") ∈ lw_all := lw_g (lw_at lw_m6 148 rfl) rfl
theorem q1453 : (Jvm.Cond.fieldLink "TitheBarnModel" (47 : Nat) "TitheBarnModel" "words" "[I") ∈ lw_all := lw_g (lw_at lw_m6 149 rfl) rfl
theorem q1454 : (Jvm.Cond.laysFinal "TitheBarnModel" "TitheBarnModel" "now" "[I") ∈ lw_all := lw_g (lw_at lw_m6 150 rfl) rfl
theorem q1455 : (Jvm.Cond.soleField "TitheBarnModel" "now") ∈ lw_all := lw_g (lw_at lw_m6 151 rfl) rfl
theorem q1456 : (Jvm.Cond.laysFinal "TitheBarnModel" "TitheBarnModel" "before" "[I") ∈ lw_all := lw_g (lw_at lw_m6 152 rfl) rfl
theorem q1457 : (Jvm.Cond.soleField "TitheBarnModel" "before") ∈ lw_all := lw_g (lw_at lw_m6 153 rfl) rfl
theorem q1458 : (Jvm.Cond.laysFinal "TitheBarnModel" "TitheBarnModel" "asIs" "[I") ∈ lw_all := lw_g (lw_at lw_m6 154 rfl) rfl
theorem q1459 : (Jvm.Cond.soleField "TitheBarnModel" "asIs") ∈ lw_all := lw_g (lw_at lw_m6 155 rfl) rfl
theorem q1460 : (Jvm.Cond.laysFinal "TitheBarnModel" "TitheBarnModel" "saved" "[I") ∈ lw_all := lw_g (lw_at lw_m6 156 rfl) rfl
theorem q1461 : (Jvm.Cond.soleField "TitheBarnModel" "saved") ∈ lw_all := lw_g (lw_at lw_m6 157 rfl) rfl
theorem q1462 : (Jvm.Cond.laysFinal "TitheBarnModel" "TitheBarnModel" "history" "[I") ∈ lw_all := lw_g (lw_at lw_m6 158 rfl) rfl
theorem q1463 : (Jvm.Cond.soleField "TitheBarnModel" "history") ∈ lw_all := lw_g (lw_at lw_m6 159 rfl) rfl
theorem q1464 : (Jvm.Cond.lays "TitheBarnModel" "TitheBarnModel" "isSaved" "Z") ∈ lw_all := lw_g (lw_at lw_m6 160 rfl) rfl
theorem q1465 : (Jvm.Cond.soleField "TitheBarnModel" "isSaved") ∈ lw_all := lw_g (lw_at lw_m6 161 rfl) rfl
theorem q1466 : (Jvm.Cond.lays "TitheBarnModel" "TitheBarnModel" "remembered" "I") ∈ lw_all := lw_g (lw_at lw_m6 162 rfl) rfl
theorem q1467 : (Jvm.Cond.soleField "TitheBarnModel" "remembered") ∈ lw_all := lw_g (lw_at lw_m6 163 rfl) rfl
theorem q1468 : (Jvm.Cond.lays "TitheBarnModel" "TitheBarnModel" "links" "I") ∈ lw_all := lw_g (lw_at lw_m6 164 rfl) rfl
theorem q1469 : (Jvm.Cond.soleField "TitheBarnModel" "links") ∈ lw_all := lw_g (lw_at lw_m6 165 rfl) rfl
theorem q1470 : (Jvm.Cond.laysFinal "TitheBarnModel" "TitheBarnModel" "reasons" "[I") ∈ lw_all := lw_g (lw_at lw_m6 166 rfl) rfl
theorem q1471 : (Jvm.Cond.soleField "TitheBarnModel" "reasons") ∈ lw_all := lw_g (lw_at lw_m6 167 rfl) rfl
theorem q1472 : (Jvm.Cond.laysFinal "TitheBarnModel" "TitheBarnModel" "details" "[I") ∈ lw_all := lw_g (lw_at lw_m6 168 rfl) rfl
theorem q1473 : (Jvm.Cond.soleField "TitheBarnModel" "details") ∈ lw_all := lw_g (lw_at lw_m6 169 rfl) rfl
theorem q1474 : (Jvm.Cond.laysFinal "TitheBarnModel" "TitheBarnModel" "input" "[I") ∈ lw_all := lw_g (lw_at lw_m6 170 rfl) rfl
theorem q1475 : (Jvm.Cond.soleField "TitheBarnModel" "input") ∈ lw_all := lw_g (lw_at lw_m6 171 rfl) rfl
theorem q1476 : (Jvm.Cond.lays "TitheBarnModel" "TitheBarnModel" "typed" "I") ∈ lw_all := lw_g (lw_at lw_m6 172 rfl) rfl
theorem q1477 : (Jvm.Cond.soleField "TitheBarnModel" "typed") ∈ lw_all := lw_g (lw_at lw_m6 173 rfl) rfl
theorem q1478 : (Jvm.Cond.lays "TitheBarnModel" "TitheBarnModel" "faultAt" "I") ∈ lw_all := lw_g (lw_at lw_m6 174 rfl) rfl
theorem q1479 : (Jvm.Cond.soleField "TitheBarnModel" "faultAt") ∈ lw_all := lw_g (lw_at lw_m6 175 rfl) rfl
theorem q1480 : (Jvm.Cond.laysFinal "TitheBarnModel" "TitheBarnModel" "written" "[I") ∈ lw_all := lw_g (lw_at lw_m6 176 rfl) rfl
theorem q1481 : (Jvm.Cond.soleField "TitheBarnModel" "written") ∈ lw_all := lw_g (lw_at lw_m6 177 rfl) rfl
theorem q1482 : (Jvm.Cond.lays "TitheBarnModel" "TitheBarnModel" "lined" "I") ∈ lw_all := lw_g (lw_at lw_m6 178 rfl) rfl
theorem q1483 : (Jvm.Cond.soleField "TitheBarnModel" "lined") ∈ lw_all := lw_g (lw_at lw_m6 179 rfl) rfl
theorem q1484 : (Jvm.Cond.lays "TitheBarnModel" "TitheBarnModel" "why" "I") ∈ lw_all := lw_g (lw_at lw_m6 180 rfl) rfl
theorem q1485 : (Jvm.Cond.soleField "TitheBarnModel" "why") ∈ lw_all := lw_g (lw_at lw_m6 181 rfl) rfl
theorem q1486 : (Jvm.Cond.laysFinal "TitheBarnModel" "TitheBarnModel" "whys" "[I") ∈ lw_all := lw_g (lw_at lw_m6 182 rfl) rfl
theorem q1487 : (Jvm.Cond.soleField "TitheBarnModel" "whys") ∈ lw_all := lw_g (lw_at lw_m6 183 rfl) rfl
theorem q1488 : (Jvm.Cond.lays "TitheBarnModel" "TitheBarnModel" "size" "I") ∈ lw_all := lw_g (lw_at lw_m6 184 rfl) rfl
theorem q1489 : (Jvm.Cond.soleField "TitheBarnModel" "size") ∈ lw_all := lw_g (lw_at lw_m6 185 rfl) rfl
theorem q1490 : (Jvm.Cond.lays "TitheBarnModel" "TitheBarnModel" "at" "I") ∈ lw_all := lw_g (lw_at lw_m6 186 rfl) rfl
theorem q1491 : (Jvm.Cond.soleField "TitheBarnModel" "at") ∈ lw_all := lw_g (lw_at lw_m6 187 rfl) rfl
theorem q1492 : (Jvm.Cond.lays "TitheBarnModel" "TitheBarnModel" "wrong" "I") ∈ lw_all := lw_g (lw_at lw_m6 188 rfl) rfl
theorem q1493 : (Jvm.Cond.soleField "TitheBarnModel" "wrong") ∈ lw_all := lw_g (lw_at lw_m6 189 rfl) rfl
theorem q1494 : (Jvm.Cond.lays "TitheBarnModel" "TitheBarnModel" "told" "I") ∈ lw_all := lw_g (lw_at lw_m6 190 rfl) rfl
theorem q1495 : (Jvm.Cond.soleField "TitheBarnModel" "told") ∈ lw_all := lw_g (lw_at lw_m6 191 rfl) rfl
theorem q1496 : (Jvm.Cond.laysFinal "TitheBarnModel" "TitheBarnModel" "kinds" "[I") ∈ lw_all := lw_g (lw_at lw_m6 192 rfl) rfl
theorem q1497 : (Jvm.Cond.soleField "TitheBarnModel" "kinds") ∈ lw_all := lw_g (lw_at lw_m6 193 rfl) rfl
theorem q1498 : (Jvm.Cond.laysFinal "TitheBarnModel" "TitheBarnModel" "words" "[I") ∈ lw_all := lw_g (lw_at lw_m6 194 rfl) rfl
theorem q1499 : (Jvm.Cond.soleField "TitheBarnModel" "words") ∈ lw_all := lw_g (lw_at lw_m6 195 rfl) rfl
theorem q1500 : (Jvm.Cond.superclass "TitheBarnModel" "java/lang/Object") ∈ lw_all := lw_g (lw_at lw_m6 196 rfl) rfl
theorem q1502 : (Jvm.Cond.instanceMethod ({ cls := "TitheBarnModel", name := "clear", desc := "()I" } : Jvm.MethodName)) ∈ lw_all := lw_g (lw_at lw_m6 198 rfl) rfl
theorem q1503 : (Jvm.Cond.selects "TitheBarnModel" ({ cls := "TitheBarnModel", name := "clear", desc := "()I" } : Jvm.MethodName) ({ cls := "TitheBarnModel", name := "clear", desc := "()I" } : Jvm.MethodName)) ∈ lw_all := lw_g (lw_at lw_m6 199 rfl) rfl
theorem q1504 : (Jvm.Cond.code ({ cls := "TitheBarnModel", name := "clear", desc := "()I" } : Jvm.MethodName) prog_22_method_5_code (2 : Nat) (Option.some Jvm.ClassFile.FieldType.int)) ∈ lw_all := lw_g (lw_at lw_m6 200 rfl) rfl
theorem q1506 : (Jvm.Cond.instanceMethod ({ cls := "TitheBarnModel", name := "append", desc := "(C)I" } : Jvm.MethodName)) ∈ lw_all := lw_g (lw_at lw_m6 202 rfl) rfl
theorem q1507 : (Jvm.Cond.selects "TitheBarnModel" ({ cls := "TitheBarnModel", name := "append", desc := "(C)I" } : Jvm.MethodName) ({ cls := "TitheBarnModel", name := "append", desc := "(C)I" } : Jvm.MethodName)) ∈ lw_all := lw_g (lw_at lw_m6 203 rfl) rfl
theorem q1508 : (Jvm.Cond.code ({ cls := "TitheBarnModel", name := "append", desc := "(C)I" } : Jvm.MethodName) prog_22_method_6_code (2 : Nat) (Option.some Jvm.ClassFile.FieldType.int)) ∈ lw_all := lw_g (lw_at lw_m6 204 rfl) rfl
theorem q1509 : (Jvm.Cond.methodLink "TitheBarnModel" (56 : Nat) ({ cls := "TitheBarnModel", name := "isIn", desc := "(III)Z" } : Jvm.MethodName)) ∈ lw_all := lw_g (lw_at lw_m6 205 rfl) rfl
theorem q1510 : (Jvm.Cond.static ({ cls := "TitheBarnModel", name := "isIn", desc := "(III)Z" } : Jvm.MethodName)) ∈ lw_all := lw_g (lw_at lw_m6 206 rfl) rfl
theorem q1511 : (Jvm.Cond.code ({ cls := "TitheBarnModel", name := "isIn", desc := "(III)Z" } : Jvm.MethodName) prog_22_method_2_code (3 : Nat) (Option.some Jvm.ClassFile.FieldType.boolean)) ∈ lw_all := lw_g (lw_at lw_m6 207 rfl) rfl
theorem q1513 : (Jvm.Cond.instanceMethod ({ cls := "TitheBarnModel", name := "reason", desc := "(II)I" } : Jvm.MethodName)) ∈ lw_all := lw_g (lw_at lw_m6 209 rfl) rfl
theorem q1514 : (Jvm.Cond.selects "TitheBarnModel" ({ cls := "TitheBarnModel", name := "reason", desc := "(II)I" } : Jvm.MethodName) ({ cls := "TitheBarnModel", name := "reason", desc := "(II)I" } : Jvm.MethodName)) ∈ lw_all := lw_g (lw_at lw_m6 210 rfl) rfl
theorem q1515 : (Jvm.Cond.code ({ cls := "TitheBarnModel", name := "reason", desc := "(II)I" } : Jvm.MethodName) prog_22_method_13_code (3 : Nat) (Option.some Jvm.ClassFile.FieldType.int)) ∈ lw_all := lw_g (lw_at lw_m6 211 rfl) rfl
theorem q1517 : (Jvm.Cond.instanceMethod ({ cls := "TitheBarnModel", name := "undo", desc := "()I" } : Jvm.MethodName)) ∈ lw_all := lw_g (lw_at lw_m6 213 rfl) rfl
theorem q1518 : (Jvm.Cond.selects "TitheBarnModel" ({ cls := "TitheBarnModel", name := "undo", desc := "()I" } : Jvm.MethodName) ({ cls := "TitheBarnModel", name := "undo", desc := "()I" } : Jvm.MethodName)) ∈ lw_all := lw_g (lw_at lw_m6 214 rfl) rfl
theorem q1519 : (Jvm.Cond.code ({ cls := "TitheBarnModel", name := "undo", desc := "()I" } : Jvm.MethodName) prog_22_method_14_code (1 : Nat) (Option.some Jvm.ClassFile.FieldType.int)) ∈ lw_all := lw_g (lw_at lw_m6 215 rfl) rfl
theorem q1520 : (Jvm.Cond.methodLink "TitheBarnModel" (73 : Nat) ({ cls := "TitheBarnModel", name := "copies", desc := "([II[II)V" } : Jvm.MethodName)) ∈ lw_all := lw_g (lw_at lw_m6 216 rfl) rfl
theorem q1521 : (Jvm.Cond.static ({ cls := "TitheBarnModel", name := "copies", desc := "([II[II)V" } : Jvm.MethodName)) ∈ lw_all := lw_g (lw_at lw_m6 217 rfl) rfl
theorem q1522 : (Jvm.Cond.code ({ cls := "TitheBarnModel", name := "copies", desc := "([II[II)V" } : Jvm.MethodName) prog_22_method_3_code (5 : Nat) (Option.none : Option Jvm.ClassFile.FieldType)) ∈ lw_all := lw_g (lw_at lw_m6 218 rfl) rfl
theorem q1524 : (Jvm.Cond.instanceMethod ({ cls := "TitheBarnModel", name := "save", desc := "()I" } : Jvm.MethodName)) ∈ lw_all := lw_g (lw_at lw_m6 220 rfl) rfl
theorem q1525 : (Jvm.Cond.selects "TitheBarnModel" ({ cls := "TitheBarnModel", name := "save", desc := "()I" } : Jvm.MethodName) ({ cls := "TitheBarnModel", name := "save", desc := "()I" } : Jvm.MethodName)) ∈ lw_all := lw_g (lw_at lw_m6 221 rfl) rfl
theorem q1526 : (Jvm.Cond.code ({ cls := "TitheBarnModel", name := "save", desc := "()I" } : Jvm.MethodName) prog_22_method_15_code (1 : Nat) (Option.some Jvm.ClassFile.FieldType.int)) ∈ lw_all := lw_g (lw_at lw_m6 222 rfl) rfl
theorem q1528 : (Jvm.Cond.instanceMethod ({ cls := "TitheBarnModel", name := "restore", desc := "()I" } : Jvm.MethodName)) ∈ lw_all := lw_g (lw_at lw_m6 224 rfl) rfl
theorem q1529 : (Jvm.Cond.selects "TitheBarnModel" ({ cls := "TitheBarnModel", name := "restore", desc := "()I" } : Jvm.MethodName) ({ cls := "TitheBarnModel", name := "restore", desc := "()I" } : Jvm.MethodName)) ∈ lw_all := lw_g (lw_at lw_m6 225 rfl) rfl
theorem q1530 : (Jvm.Cond.code ({ cls := "TitheBarnModel", name := "restore", desc := "()I" } : Jvm.MethodName) prog_22_method_16_code (1 : Nat) (Option.some Jvm.ClassFile.FieldType.int)) ∈ lw_all := lw_g (lw_at lw_m6 226 rfl) rfl
theorem q1532 : (Jvm.Cond.instanceMethod ({ cls := "TitheBarnModel", name := "parish", desc := "(I)I" } : Jvm.MethodName)) ∈ lw_all := lw_g (lw_at lw_m6 228 rfl) rfl
theorem q1533 : (Jvm.Cond.selects "TitheBarnModel" ({ cls := "TitheBarnModel", name := "parish", desc := "(I)I" } : Jvm.MethodName) ({ cls := "TitheBarnModel", name := "parish", desc := "(I)I" } : Jvm.MethodName)) ∈ lw_all := lw_g (lw_at lw_m6 229 rfl) rfl
theorem q1534 : (Jvm.Cond.code ({ cls := "TitheBarnModel", name := "parish", desc := "(I)I" } : Jvm.MethodName) prog_22_method_22_code (3 : Nat) (Option.some Jvm.ClassFile.FieldType.int)) ∈ lw_all := lw_g (lw_at lw_m6 230 rfl) rfl
theorem q1535 : (Jvm.Cond.methodLink "TitheBarnModel" (93 : Nat) ({ cls := "TitheBarnModel", name := "isKind", desc := "(I)Z" } : Jvm.MethodName)) ∈ lw_all := lw_g (lw_at lw_m6 231 rfl) rfl
theorem q1536 : (Jvm.Cond.static ({ cls := "TitheBarnModel", name := "isKind", desc := "(I)Z" } : Jvm.MethodName)) ∈ lw_all := lw_g (lw_at lw_m6 232 rfl) rfl
theorem q1537 : (Jvm.Cond.code ({ cls := "TitheBarnModel", name := "isKind", desc := "(I)Z" } : Jvm.MethodName) prog_22_method_18_code (1 : Nat) (Option.some Jvm.ClassFile.FieldType.boolean)) ∈ lw_all := lw_g (lw_at lw_m6 233 rfl) rfl
theorem q1538 : (Jvm.Cond.methodLink "TitheBarnModel" (97 : Nat) ({ cls := "TitheBarnModel", name := "starts", desc := "()V" } : Jvm.MethodName)) ∈ lw_all := lw_g (lw_at lw_m6 234 rfl) rfl
theorem q1539 : (Jvm.Cond.privateMethod ({ cls := "TitheBarnModel", name := "starts", desc := "()V" } : Jvm.MethodName)) ∈ lw_tbl := lw_at lw_m6 235 rfl
theorem q1540 : (Jvm.Cond.instanceMethod ({ cls := "TitheBarnModel", name := "starts", desc := "()V" } : Jvm.MethodName)) ∈ lw_all := lw_g (lw_at lw_m6 236 rfl) rfl
theorem q1541 : (Jvm.Cond.code ({ cls := "TitheBarnModel", name := "starts", desc := "()V" } : Jvm.MethodName) prog_22_method_10_code (1 : Nat) (Option.none : Option Jvm.ClassFile.FieldType)) ∈ lw_all := lw_g (lw_at lw_m6 237 rfl) rfl
theorem q1542 : (Jvm.Cond.methodLink "TitheBarnModel" (100 : Nat) ({ cls := "TitheBarnModel", name := "refuses", desc := "(IIII)I" } : Jvm.MethodName)) ∈ lw_all := lw_g (lw_at lw_m6 238 rfl) rfl
theorem q1543 : (Jvm.Cond.privateMethod ({ cls := "TitheBarnModel", name := "refuses", desc := "(IIII)I" } : Jvm.MethodName)) ∈ lw_tbl := lw_at lw_m6 239 rfl
theorem q1544 : (Jvm.Cond.instanceMethod ({ cls := "TitheBarnModel", name := "refuses", desc := "(IIII)I" } : Jvm.MethodName)) ∈ lw_all := lw_g (lw_at lw_m7 0 rfl) rfl
theorem q1545 : (Jvm.Cond.code ({ cls := "TitheBarnModel", name := "refuses", desc := "(IIII)I" } : Jvm.MethodName) prog_22_method_7_code (5 : Nat) (Option.some Jvm.ClassFile.FieldType.int)) ∈ lw_all := lw_g (lw_at lw_m7 1 rfl) rfl
theorem q1546 : (Jvm.Cond.methodLink "TitheBarnModel" (104 : Nat) ({ cls := "TitheBarnModel", name := "ends", desc := "(I)I" } : Jvm.MethodName)) ∈ lw_all := lw_g (lw_at lw_m7 2 rfl) rfl
theorem q1547 : (Jvm.Cond.privateMethod ({ cls := "TitheBarnModel", name := "ends", desc := "(I)I" } : Jvm.MethodName)) ∈ lw_tbl := lw_at lw_m7 3 rfl
theorem q1548 : (Jvm.Cond.instanceMethod ({ cls := "TitheBarnModel", name := "ends", desc := "(I)I" } : Jvm.MethodName)) ∈ lw_all := lw_g (lw_at lw_m7 4 rfl) rfl
theorem q1549 : (Jvm.Cond.code ({ cls := "TitheBarnModel", name := "ends", desc := "(I)I" } : Jvm.MethodName) prog_22_method_12_code (2 : Nat) (Option.some Jvm.ClassFile.FieldType.int)) ∈ lw_all := lw_g (lw_at lw_m7 5 rfl) rfl
theorem q1550 : (Jvm.Cond.methodLink "TitheBarnModel" (77 : Nat) ({ cls := "TitheBarnModel", name := "keepsWhy", desc := "(I)V" } : Jvm.MethodName)) ∈ lw_all := lw_g (lw_at lw_m7 6 rfl) rfl
theorem q1551 : (Jvm.Cond.privateMethod ({ cls := "TitheBarnModel", name := "keepsWhy", desc := "(I)V" } : Jvm.MethodName)) ∈ lw_tbl := lw_at lw_m7 7 rfl
theorem q1552 : (Jvm.Cond.instanceMethod ({ cls := "TitheBarnModel", name := "keepsWhy", desc := "(I)V" } : Jvm.MethodName)) ∈ lw_all := lw_g (lw_at lw_m7 8 rfl) rfl
theorem q1553 : (Jvm.Cond.code ({ cls := "TitheBarnModel", name := "keepsWhy", desc := "(I)V" } : Jvm.MethodName) prog_22_method_9_code (3 : Nat) (Option.none : Option Jvm.ClassFile.FieldType)) ∈ lw_all := lw_g (lw_at lw_m7 9 rfl) rfl
theorem q1554 : (Jvm.Cond.methodLink "TitheBarnModel" (69 : Nat) ({ cls := "TitheBarnModel", name := "keeps", desc := "(III)V" } : Jvm.MethodName)) ∈ lw_all := lw_g (lw_at lw_m7 10 rfl) rfl
theorem q1555 : (Jvm.Cond.privateMethod ({ cls := "TitheBarnModel", name := "keeps", desc := "(III)V" } : Jvm.MethodName)) ∈ lw_tbl := lw_at lw_m7 11 rfl
theorem q1556 : (Jvm.Cond.instanceMethod ({ cls := "TitheBarnModel", name := "keeps", desc := "(III)V" } : Jvm.MethodName)) ∈ lw_all := lw_g (lw_at lw_m7 12 rfl) rfl
theorem q1557 : (Jvm.Cond.code ({ cls := "TitheBarnModel", name := "keeps", desc := "(III)V" } : Jvm.MethodName) prog_22_method_8_code (4 : Nat) (Option.none : Option Jvm.ClassFile.FieldType)) ∈ lw_all := lw_g (lw_at lw_m7 13 rfl) rfl
theorem q1558 : (Jvm.Cond.methodLink "TitheBarnModel" (81 : Nat) ({ cls := "TitheBarnModel", name := "remembers", desc := "(I)I" } : Jvm.MethodName)) ∈ lw_all := lw_g (lw_at lw_m7 14 rfl) rfl
theorem q1559 : (Jvm.Cond.privateMethod ({ cls := "TitheBarnModel", name := "remembers", desc := "(I)I" } : Jvm.MethodName)) ∈ lw_tbl := lw_at lw_m7 15 rfl
theorem q1560 : (Jvm.Cond.instanceMethod ({ cls := "TitheBarnModel", name := "remembers", desc := "(I)I" } : Jvm.MethodName)) ∈ lw_all := lw_g (lw_at lw_m7 16 rfl) rfl
theorem q1561 : (Jvm.Cond.code ({ cls := "TitheBarnModel", name := "remembers", desc := "(I)I" } : Jvm.MethodName) prog_22_method_11_code (3 : Nat) (Option.some Jvm.ClassFile.FieldType.int)) ∈ lw_all := lw_g (lw_at lw_m7 17 rfl) rfl
theorem q1563 : (Jvm.Cond.instanceMethod ({ cls := "TitheBarnModel", name := "harvest", desc := "(II)I" } : Jvm.MethodName)) ∈ lw_all := lw_g (lw_at lw_m7 19 rfl) rfl
theorem q1564 : (Jvm.Cond.selects "TitheBarnModel" ({ cls := "TitheBarnModel", name := "harvest", desc := "(II)I" } : Jvm.MethodName) ({ cls := "TitheBarnModel", name := "harvest", desc := "(II)I" } : Jvm.MethodName)) ∈ lw_all := lw_g (lw_at lw_m7 20 rfl) rfl
theorem q1565 : (Jvm.Cond.code ({ cls := "TitheBarnModel", name := "harvest", desc := "(II)I" } : Jvm.MethodName) prog_22_method_25_code (3 : Nat) (Option.some Jvm.ClassFile.FieldType.int)) ∈ lw_all := lw_g (lw_at lw_m7 21 rfl) rfl
theorem q1566 : (Jvm.Cond.methodLink "TitheBarnModel" (113 : Nat) ({ cls := "TitheBarnModel", name := "harvests", desc := "(II)I" } : Jvm.MethodName)) ∈ lw_all := lw_g (lw_at lw_m7 22 rfl) rfl
theorem q1567 : (Jvm.Cond.privateMethod ({ cls := "TitheBarnModel", name := "harvests", desc := "(II)I" } : Jvm.MethodName)) ∈ lw_tbl := lw_at lw_m7 23 rfl
theorem q1568 : (Jvm.Cond.instanceMethod ({ cls := "TitheBarnModel", name := "harvests", desc := "(II)I" } : Jvm.MethodName)) ∈ lw_all := lw_g (lw_at lw_m7 24 rfl) rfl
theorem q1569 : (Jvm.Cond.code ({ cls := "TitheBarnModel", name := "harvests", desc := "(II)I" } : Jvm.MethodName) prog_22_method_24_code (6 : Nat) (Option.some Jvm.ClassFile.FieldType.int)) ∈ lw_all := lw_g (lw_at lw_m7 25 rfl) rfl
theorem q1570 : (Jvm.Cond.methodLink "TitheBarnModel" (107 : Nat) ({ cls := "TitheBarnModel", name := "isParish", desc := "(I)Z" } : Jvm.MethodName)) ∈ lw_all := lw_g (lw_at lw_m7 26 rfl) rfl
theorem q1571 : (Jvm.Cond.privateMethod ({ cls := "TitheBarnModel", name := "isParish", desc := "(I)Z" } : Jvm.MethodName)) ∈ lw_tbl := lw_at lw_m7 27 rfl
theorem q1572 : (Jvm.Cond.instanceMethod ({ cls := "TitheBarnModel", name := "isParish", desc := "(I)Z" } : Jvm.MethodName)) ∈ lw_all := lw_g (lw_at lw_m7 28 rfl) rfl
theorem q1573 : (Jvm.Cond.code ({ cls := "TitheBarnModel", name := "isParish", desc := "(I)Z" } : Jvm.MethodName) prog_22_method_19_code (2 : Nat) (Option.some Jvm.ClassFile.FieldType.boolean)) ∈ lw_all := lw_g (lw_at lw_m7 29 rfl) rfl
theorem q1574 : (Jvm.Cond.methodLink "TitheBarnModel" (110 : Nat) ({ cls := "TitheBarnModel", name := "becomeDue", desc := "(II)I" } : Jvm.MethodName)) ∈ lw_all := lw_g (lw_at lw_m7 30 rfl) rfl
theorem q1575 : (Jvm.Cond.privateMethod ({ cls := "TitheBarnModel", name := "becomeDue", desc := "(II)I" } : Jvm.MethodName)) ∈ lw_tbl := lw_at lw_m7 31 rfl
theorem q1576 : (Jvm.Cond.instanceMethod ({ cls := "TitheBarnModel", name := "becomeDue", desc := "(II)I" } : Jvm.MethodName)) ∈ lw_all := lw_g (lw_at lw_m7 32 rfl) rfl
theorem q1577 : (Jvm.Cond.code ({ cls := "TitheBarnModel", name := "becomeDue", desc := "(II)I" } : Jvm.MethodName) prog_22_method_23_code (3 : Nat) (Option.some Jvm.ClassFile.FieldType.int)) ∈ lw_all := lw_g (lw_at lw_m7 33 rfl) rfl
theorem q1578 : (Jvm.Cond.methodLink "TitheBarnModel" (89 : Nat) ({ cls := "TitheBarnModel", name := "of", desc := "(II)I" } : Jvm.MethodName)) ∈ lw_all := lw_g (lw_at lw_m7 34 rfl) rfl
theorem q1579 : (Jvm.Cond.privateMethod ({ cls := "TitheBarnModel", name := "of", desc := "(II)I" } : Jvm.MethodName)) ∈ lw_tbl := lw_at lw_m7 35 rfl
theorem q1580 : (Jvm.Cond.instanceMethod ({ cls := "TitheBarnModel", name := "of", desc := "(II)I" } : Jvm.MethodName)) ∈ lw_all := lw_g (lw_at lw_m7 36 rfl) rfl
theorem q1581 : (Jvm.Cond.code ({ cls := "TitheBarnModel", name := "of", desc := "(II)I" } : Jvm.MethodName) prog_22_method_20_code (3 : Nat) (Option.some Jvm.ClassFile.FieldType.int)) ∈ lw_all := lw_g (lw_at lw_m7 37 rfl) rfl
theorem q1583 : (Jvm.Cond.instanceMethod ({ cls := "TitheBarnModel", name := "tithe", desc := "(II)I" } : Jvm.MethodName)) ∈ lw_all := lw_g (lw_at lw_m7 39 rfl) rfl
theorem q1584 : (Jvm.Cond.selects "TitheBarnModel" ({ cls := "TitheBarnModel", name := "tithe", desc := "(II)I" } : Jvm.MethodName) ({ cls := "TitheBarnModel", name := "tithe", desc := "(II)I" } : Jvm.MethodName)) ∈ lw_all := lw_g (lw_at lw_m7 40 rfl) rfl
theorem q1585 : (Jvm.Cond.code ({ cls := "TitheBarnModel", name := "tithe", desc := "(II)I" } : Jvm.MethodName) prog_22_method_26_code (3 : Nat) (Option.some Jvm.ClassFile.FieldType.int)) ∈ lw_all := lw_g (lw_at lw_m7 41 rfl) rfl
theorem q1587 : (Jvm.Cond.instanceMethod ({ cls := "TitheBarnModel", name := "titheAgain", desc := "(II)I" } : Jvm.MethodName)) ∈ lw_all := lw_g (lw_at lw_m7 43 rfl) rfl
theorem q1588 : (Jvm.Cond.selects "TitheBarnModel" ({ cls := "TitheBarnModel", name := "titheAgain", desc := "(II)I" } : Jvm.MethodName) ({ cls := "TitheBarnModel", name := "titheAgain", desc := "(II)I" } : Jvm.MethodName)) ∈ lw_all := lw_g (lw_at lw_m7 44 rfl) rfl
theorem q1589 : (Jvm.Cond.code ({ cls := "TitheBarnModel", name := "titheAgain", desc := "(II)I" } : Jvm.MethodName) prog_22_method_27_code (3 : Nat) (Option.some Jvm.ClassFile.FieldType.int)) ∈ lw_all := lw_g (lw_at lw_m7 45 rfl) rfl
theorem q1590 : (Jvm.Cond.methodLink "TitheBarnModel" (116 : Nat) ({ cls := "TitheBarnModel", name := "tithe", desc := "(II)I" } : Jvm.MethodName)) ∈ lw_all := lw_g (lw_at lw_m7 46 rfl) rfl
theorem q1592 : (Jvm.Cond.instanceMethod ({ cls := "TitheBarnModel", name := "cart", desc := "(III)I" } : Jvm.MethodName)) ∈ lw_all := lw_g (lw_at lw_m7 48 rfl) rfl
theorem q1593 : (Jvm.Cond.selects "TitheBarnModel" ({ cls := "TitheBarnModel", name := "cart", desc := "(III)I" } : Jvm.MethodName) ({ cls := "TitheBarnModel", name := "cart", desc := "(III)I" } : Jvm.MethodName)) ∈ lw_all := lw_g (lw_at lw_m7 49 rfl) rfl
theorem q1594 : (Jvm.Cond.code ({ cls := "TitheBarnModel", name := "cart", desc := "(III)I" } : Jvm.MethodName) prog_22_method_34_code (4 : Nat) (Option.some Jvm.ClassFile.FieldType.int)) ∈ lw_all := lw_g (lw_at lw_m7 50 rfl) rfl
theorem q1595 : (Jvm.Cond.methodLink "TitheBarnModel" (137 : Nat) ({ cls := "TitheBarnModel", name := "carts", desc := "(III)I" } : Jvm.MethodName)) ∈ lw_all := lw_g (lw_at lw_m7 51 rfl) rfl
theorem q1596 : (Jvm.Cond.privateMethod ({ cls := "TitheBarnModel", name := "carts", desc := "(III)I" } : Jvm.MethodName)) ∈ lw_tbl := lw_at lw_m7 52 rfl
theorem q1597 : (Jvm.Cond.instanceMethod ({ cls := "TitheBarnModel", name := "carts", desc := "(III)I" } : Jvm.MethodName)) ∈ lw_all := lw_g (lw_at lw_m7 53 rfl) rfl
theorem q1598 : (Jvm.Cond.code ({ cls := "TitheBarnModel", name := "carts", desc := "(III)I" } : Jvm.MethodName) prog_22_method_33_code (6 : Nat) (Option.some Jvm.ClassFile.FieldType.int)) ∈ lw_all := lw_g (lw_at lw_m7 54 rfl) rfl
theorem q1599 : (Jvm.Cond.methodLink "TitheBarnModel" (122 : Nat) ({ cls := "TitheBarnModel", name := "isBay", desc := "(I)Z" } : Jvm.MethodName)) ∈ lw_all := lw_g (lw_at lw_m7 55 rfl) rfl
theorem q1600 : (Jvm.Cond.static ({ cls := "TitheBarnModel", name := "isBay", desc := "(I)Z" } : Jvm.MethodName)) ∈ lw_all := lw_g (lw_at lw_m7 56 rfl) rfl
theorem q1601 : (Jvm.Cond.code ({ cls := "TitheBarnModel", name := "isBay", desc := "(I)Z" } : Jvm.MethodName) prog_22_method_29_code (1 : Nat) (Option.some Jvm.ClassFile.FieldType.boolean)) ∈ lw_all := lw_g (lw_at lw_m7 57 rfl) rfl
theorem q1602 : (Jvm.Cond.methodLink "TitheBarnModel" (125 : Nat) ({ cls := "TitheBarnModel", name := "dueOf", desc := "(I)I" } : Jvm.MethodName)) ∈ lw_all := lw_g (lw_at lw_m7 58 rfl) rfl
theorem q1603 : (Jvm.Cond.privateMethod ({ cls := "TitheBarnModel", name := "dueOf", desc := "(I)I" } : Jvm.MethodName)) ∈ lw_tbl := lw_at lw_m7 59 rfl
theorem q1604 : (Jvm.Cond.instanceMethod ({ cls := "TitheBarnModel", name := "dueOf", desc := "(I)I" } : Jvm.MethodName)) ∈ lw_all := lw_g (lw_at lw_m7 60 rfl) rfl
theorem q1605 : (Jvm.Cond.code ({ cls := "TitheBarnModel", name := "dueOf", desc := "(I)I" } : Jvm.MethodName) prog_22_method_21_code (4 : Nat) (Option.some Jvm.ClassFile.FieldType.int)) ∈ lw_all := lw_g (lw_at lw_m7 61 rfl) rfl
theorem q1606 : (Jvm.Cond.methodLink "TitheBarnModel" (128 : Nat) ({ cls := "TitheBarnModel", name := "inBay", desc := "(I)I" } : Jvm.MethodName)) ∈ lw_all := lw_g (lw_at lw_m7 62 rfl) rfl
theorem q1607 : (Jvm.Cond.privateMethod ({ cls := "TitheBarnModel", name := "inBay", desc := "(I)I" } : Jvm.MethodName)) ∈ lw_tbl := lw_at lw_m7 63 rfl
theorem q1608 : (Jvm.Cond.instanceMethod ({ cls := "TitheBarnModel", name := "inBay", desc := "(I)I" } : Jvm.MethodName)) ∈ lw_all := lw_g (lw_at lw_m7 64 rfl) rfl
theorem q1609 : (Jvm.Cond.code ({ cls := "TitheBarnModel", name := "inBay", desc := "(I)I" } : Jvm.MethodName) prog_22_method_30_code (2 : Nat) (Option.some Jvm.ClassFile.FieldType.int)) ∈ lw_all := lw_g (lw_at lw_m7 65 rfl) rfl
theorem q1610 : (Jvm.Cond.methodLink "TitheBarnModel" (131 : Nat) ({ cls := "TitheBarnModel", name := "dropsDue", desc := "(I)V" } : Jvm.MethodName)) ∈ lw_all := lw_g (lw_at lw_m7 66 rfl) rfl
theorem q1611 : (Jvm.Cond.privateMethod ({ cls := "TitheBarnModel", name := "dropsDue", desc := "(I)V" } : Jvm.MethodName)) ∈ lw_tbl := lw_at lw_m7 67 rfl
theorem q1612 : (Jvm.Cond.instanceMethod ({ cls := "TitheBarnModel", name := "dropsDue", desc := "(I)V" } : Jvm.MethodName)) ∈ lw_all := lw_g (lw_at lw_m7 68 rfl) rfl
theorem q1613 : (Jvm.Cond.code ({ cls := "TitheBarnModel", name := "dropsDue", desc := "(I)V" } : Jvm.MethodName) prog_22_method_28_code (4 : Nat) (Option.none : Option Jvm.ClassFile.FieldType)) ∈ lw_all := lw_g (lw_at lw_m7 69 rfl) rfl
theorem q1614 : (Jvm.Cond.methodLink "TitheBarnModel" (134 : Nat) ({ cls := "TitheBarnModel", name := "pints", desc := "(I)I" } : Jvm.MethodName)) ∈ lw_all := lw_g (lw_at lw_m7 70 rfl) rfl
theorem q1615 : (Jvm.Cond.static ({ cls := "TitheBarnModel", name := "pints", desc := "(I)I" } : Jvm.MethodName)) ∈ lw_all := lw_g (lw_at lw_m7 71 rfl) rfl
theorem q1616 : (Jvm.Cond.code ({ cls := "TitheBarnModel", name := "pints", desc := "(I)I" } : Jvm.MethodName) prog_22_method_17_code (1 : Nat) (Option.some Jvm.ClassFile.FieldType.int)) ∈ lw_all := lw_g (lw_at lw_m7 72 rfl) rfl
theorem q1618 : (Jvm.Cond.instanceMethod ({ cls := "TitheBarnModel", name := "bayOf", desc := "(II)I" } : Jvm.MethodName)) ∈ lw_all := lw_g (lw_at lw_m7 74 rfl) rfl
theorem q1619 : (Jvm.Cond.selects "TitheBarnModel" ({ cls := "TitheBarnModel", name := "bayOf", desc := "(II)I" } : Jvm.MethodName) ({ cls := "TitheBarnModel", name := "bayOf", desc := "(II)I" } : Jvm.MethodName)) ∈ lw_all := lw_g (lw_at lw_m7 75 rfl) rfl
theorem q1620 : (Jvm.Cond.code ({ cls := "TitheBarnModel", name := "bayOf", desc := "(II)I" } : Jvm.MethodName) prog_22_method_39_code (3 : Nat) (Option.some Jvm.ClassFile.FieldType.int)) ∈ lw_all := lw_g (lw_at lw_m7 76 rfl) rfl
theorem q1621 : (Jvm.Cond.methodLink "TitheBarnModel" (144 : Nat) ({ cls := "TitheBarnModel", name := "lotsOf", desc := "(I)I" } : Jvm.MethodName)) ∈ lw_all := lw_g (lw_at lw_m7 77 rfl) rfl
theorem q1622 : (Jvm.Cond.privateMethod ({ cls := "TitheBarnModel", name := "lotsOf", desc := "(I)I" } : Jvm.MethodName)) ∈ lw_tbl := lw_at lw_m7 78 rfl
theorem q1623 : (Jvm.Cond.instanceMethod ({ cls := "TitheBarnModel", name := "lotsOf", desc := "(I)I" } : Jvm.MethodName)) ∈ lw_all := lw_g (lw_at lw_m7 79 rfl) rfl
theorem q1624 : (Jvm.Cond.code ({ cls := "TitheBarnModel", name := "lotsOf", desc := "(I)I" } : Jvm.MethodName) prog_22_method_36_code (4 : Nat) (Option.some Jvm.ClassFile.FieldType.int)) ∈ lw_all := lw_g (lw_at lw_m7 80 rfl) rfl
theorem q1625 : (Jvm.Cond.methodLink "TitheBarnModel" (119 : Nat) ({ cls := "TitheBarnModel", name := "sheaf", desc := "(II)I" } : Jvm.MethodName)) ∈ lw_all := lw_g (lw_at lw_m7 81 rfl) rfl
theorem q1626 : (Jvm.Cond.privateMethod ({ cls := "TitheBarnModel", name := "sheaf", desc := "(II)I" } : Jvm.MethodName)) ∈ lw_tbl := lw_at lw_m7 82 rfl
theorem q1627 : (Jvm.Cond.instanceMethod ({ cls := "TitheBarnModel", name := "sheaf", desc := "(II)I" } : Jvm.MethodName)) ∈ lw_all := lw_g (lw_at lw_m7 83 rfl) rfl
theorem q1628 : (Jvm.Cond.code ({ cls := "TitheBarnModel", name := "sheaf", desc := "(II)I" } : Jvm.MethodName) prog_22_method_31_code (3 : Nat) (Option.some Jvm.ClassFile.FieldType.int)) ∈ lw_all := lw_g (lw_at lw_m7 84 rfl) rfl
theorem q1629 : (Jvm.Cond.methodLink "TitheBarnModel" (147 : Nat) ({ cls := "TitheBarnModel", name := "pintsIn", desc := "(I)I" } : Jvm.MethodName)) ∈ lw_all := lw_g (lw_at lw_m7 85 rfl) rfl
theorem q1630 : (Jvm.Cond.privateMethod ({ cls := "TitheBarnModel", name := "pintsIn", desc := "(I)I" } : Jvm.MethodName)) ∈ lw_tbl := lw_at lw_m7 86 rfl
theorem q1631 : (Jvm.Cond.instanceMethod ({ cls := "TitheBarnModel", name := "pintsIn", desc := "(I)I" } : Jvm.MethodName)) ∈ lw_all := lw_g (lw_at lw_m7 87 rfl) rfl
theorem q1632 : (Jvm.Cond.code ({ cls := "TitheBarnModel", name := "pintsIn", desc := "(I)I" } : Jvm.MethodName) prog_22_method_37_code (4 : Nat) (Option.some Jvm.ClassFile.FieldType.int)) ∈ lw_all := lw_g (lw_at lw_m7 88 rfl) rfl
theorem q1633 : (Jvm.Cond.methodLink "TitheBarnModel" (141 : Nat) ({ cls := "TitheBarnModel", name := "kindOf", desc := "(II)I" } : Jvm.MethodName)) ∈ lw_all := lw_g (lw_at lw_m7 89 rfl) rfl
theorem q1634 : (Jvm.Cond.privateMethod ({ cls := "TitheBarnModel", name := "kindOf", desc := "(II)I" } : Jvm.MethodName)) ∈ lw_tbl := lw_at lw_m7 90 rfl
theorem q1635 : (Jvm.Cond.instanceMethod ({ cls := "TitheBarnModel", name := "kindOf", desc := "(II)I" } : Jvm.MethodName)) ∈ lw_all := lw_g (lw_at lw_m7 91 rfl) rfl
theorem q1636 : (Jvm.Cond.code ({ cls := "TitheBarnModel", name := "kindOf", desc := "(II)I" } : Jvm.MethodName) prog_22_method_32_code (3 : Nat) (Option.some Jvm.ClassFile.FieldType.int)) ∈ lw_all := lw_g (lw_at lw_m7 92 rfl) rfl
theorem q1637 : (Jvm.Cond.methodLink "TitheBarnModel" (150 : Nat) ({ cls := "TitheBarnModel", name := "parishesIn", desc := "(I)I" } : Jvm.MethodName)) ∈ lw_all := lw_g (lw_at lw_m7 93 rfl) rfl
theorem q1638 : (Jvm.Cond.privateMethod ({ cls := "TitheBarnModel", name := "parishesIn", desc := "(I)I" } : Jvm.MethodName)) ∈ lw_tbl := lw_at lw_m7 94 rfl
theorem q1639 : (Jvm.Cond.instanceMethod ({ cls := "TitheBarnModel", name := "parishesIn", desc := "(I)I" } : Jvm.MethodName)) ∈ lw_all := lw_g (lw_at lw_m7 95 rfl) rfl
theorem q1640 : (Jvm.Cond.code ({ cls := "TitheBarnModel", name := "parishesIn", desc := "(I)I" } : Jvm.MethodName) prog_22_method_38_code (4 : Nat) (Option.some Jvm.ClassFile.FieldType.int)) ∈ lw_all := lw_g (lw_at lw_m7 96 rfl) rfl
theorem q1642 : (Jvm.Cond.instanceMethod ({ cls := "TitheBarnModel", name := "lotOf", desc := "(III)I" } : Jvm.MethodName)) ∈ lw_all := lw_g (lw_at lw_m7 98 rfl) rfl
theorem q1643 : (Jvm.Cond.selects "TitheBarnModel" ({ cls := "TitheBarnModel", name := "lotOf", desc := "(III)I" } : Jvm.MethodName) ({ cls := "TitheBarnModel", name := "lotOf", desc := "(III)I" } : Jvm.MethodName)) ∈ lw_all := lw_g (lw_at lw_m7 99 rfl) rfl
theorem q1644 : (Jvm.Cond.code ({ cls := "TitheBarnModel", name := "lotOf", desc := "(III)I" } : Jvm.MethodName) prog_22_method_42_code (5 : Nat) (Option.some Jvm.ClassFile.FieldType.int)) ∈ lw_all := lw_g (lw_at lw_m7 100 rfl) rfl
theorem q1645 : (Jvm.Cond.methodLink "TitheBarnModel" (153 : Nat) ({ cls := "TitheBarnModel", name := "lotAt", desc := "(II)I" } : Jvm.MethodName)) ∈ lw_all := lw_g (lw_at lw_m7 101 rfl) rfl
theorem q1646 : (Jvm.Cond.privateMethod ({ cls := "TitheBarnModel", name := "lotAt", desc := "(II)I" } : Jvm.MethodName)) ∈ lw_tbl := lw_at lw_m7 102 rfl
theorem q1647 : (Jvm.Cond.instanceMethod ({ cls := "TitheBarnModel", name := "lotAt", desc := "(II)I" } : Jvm.MethodName)) ∈ lw_all := lw_g (lw_at lw_m7 103 rfl) rfl
theorem q1648 : (Jvm.Cond.code ({ cls := "TitheBarnModel", name := "lotAt", desc := "(II)I" } : Jvm.MethodName) prog_22_method_40_code (5 : Nat) (Option.some Jvm.ClassFile.FieldType.int)) ∈ lw_all := lw_g (lw_at lw_m7 104 rfl) rfl
theorem q1649 : (Jvm.Cond.methodLink "TitheBarnModel" (156 : Nat) ({ cls := "TitheBarnModel", name := "lotSize", desc := "(II)I" } : Jvm.MethodName)) ∈ lw_all := lw_g (lw_at lw_m7 105 rfl) rfl
theorem q1650 : (Jvm.Cond.privateMethod ({ cls := "TitheBarnModel", name := "lotSize", desc := "(II)I" } : Jvm.MethodName)) ∈ lw_tbl := lw_at lw_m7 106 rfl
theorem q1651 : (Jvm.Cond.instanceMethod ({ cls := "TitheBarnModel", name := "lotSize", desc := "(II)I" } : Jvm.MethodName)) ∈ lw_all := lw_g (lw_at lw_m7 107 rfl) rfl
theorem q1652 : (Jvm.Cond.code ({ cls := "TitheBarnModel", name := "lotSize", desc := "(II)I" } : Jvm.MethodName) prog_22_method_41_code (4 : Nat) (Option.some Jvm.ClassFile.FieldType.int)) ∈ lw_all := lw_g (lw_at lw_m7 108 rfl) rfl
theorem q1654 : (Jvm.Cond.instanceMethod ({ cls := "TitheBarnModel", name := "thresh", desc := "(III)I" } : Jvm.MethodName)) ∈ lw_all := lw_g (lw_at lw_m7 110 rfl) rfl
theorem q1655 : (Jvm.Cond.selects "TitheBarnModel" ({ cls := "TitheBarnModel", name := "thresh", desc := "(III)I" } : Jvm.MethodName) ({ cls := "TitheBarnModel", name := "thresh", desc := "(III)I" } : Jvm.MethodName)) ∈ lw_all := lw_g (lw_at lw_m7 111 rfl) rfl
theorem q1656 : (Jvm.Cond.code ({ cls := "TitheBarnModel", name := "thresh", desc := "(III)I" } : Jvm.MethodName) prog_22_method_48_code (4 : Nat) (Option.some Jvm.ClassFile.FieldType.int)) ∈ lw_all := lw_g (lw_at lw_m7 112 rfl) rfl
theorem q1657 : (Jvm.Cond.methodLink "TitheBarnModel" (172 : Nat) ({ cls := "TitheBarnModel", name := "threshes", desc := "(III)I" } : Jvm.MethodName)) ∈ lw_all := lw_g (lw_at lw_m7 113 rfl) rfl
theorem q1658 : (Jvm.Cond.privateMethod ({ cls := "TitheBarnModel", name := "threshes", desc := "(III)I" } : Jvm.MethodName)) ∈ lw_tbl := lw_at lw_m7 114 rfl
theorem q1659 : (Jvm.Cond.instanceMethod ({ cls := "TitheBarnModel", name := "threshes", desc := "(III)I" } : Jvm.MethodName)) ∈ lw_all := lw_g (lw_at lw_m7 115 rfl) rfl
theorem q1660 : (Jvm.Cond.code ({ cls := "TitheBarnModel", name := "threshes", desc := "(III)I" } : Jvm.MethodName) prog_22_method_47_code (6 : Nat) (Option.some Jvm.ClassFile.FieldType.int)) ∈ lw_all := lw_g (lw_at lw_m7 116 rfl) rfl
theorem q1661 : (Jvm.Cond.methodLink "TitheBarnModel" (159 : Nat) ({ cls := "TitheBarnModel", name := "isFloor", desc := "(I)Z" } : Jvm.MethodName)) ∈ lw_all := lw_g (lw_at lw_m7 117 rfl) rfl
theorem q1662 : (Jvm.Cond.static ({ cls := "TitheBarnModel", name := "isFloor", desc := "(I)Z" } : Jvm.MethodName)) ∈ lw_all := lw_g (lw_at lw_m7 118 rfl) rfl
theorem q1663 : (Jvm.Cond.code ({ cls := "TitheBarnModel", name := "isFloor", desc := "(I)Z" } : Jvm.MethodName) prog_22_method_43_code (1 : Nat) (Option.some Jvm.ClassFile.FieldType.boolean)) ∈ lw_all := lw_g (lw_at lw_m7 119 rfl) rfl
theorem q1664 : (Jvm.Cond.methodLink "TitheBarnModel" (162 : Nat) ({ cls := "TitheBarnModel", name := "unlike", desc := "(II)I" } : Jvm.MethodName)) ∈ lw_all := lw_g (lw_at lw_m7 120 rfl) rfl
theorem q1665 : (Jvm.Cond.privateMethod ({ cls := "TitheBarnModel", name := "unlike", desc := "(II)I" } : Jvm.MethodName)) ∈ lw_tbl := lw_at lw_m7 121 rfl
theorem q1666 : (Jvm.Cond.instanceMethod ({ cls := "TitheBarnModel", name := "unlike", desc := "(II)I" } : Jvm.MethodName)) ∈ lw_all := lw_g (lw_at lw_m7 122 rfl) rfl
theorem q1667 : (Jvm.Cond.code ({ cls := "TitheBarnModel", name := "unlike", desc := "(II)I" } : Jvm.MethodName) prog_22_method_46_code (6 : Nat) (Option.some Jvm.ClassFile.FieldType.int)) ∈ lw_all := lw_g (lw_at lw_m7 123 rfl) rfl
theorem q1668 : (Jvm.Cond.methodLink "TitheBarnModel" (165 : Nat) ({ cls := "TitheBarnModel", name := "floor", desc := "(II)I" } : Jvm.MethodName)) ∈ lw_all := lw_g (lw_at lw_m7 124 rfl) rfl
theorem q1669 : (Jvm.Cond.privateMethod ({ cls := "TitheBarnModel", name := "floor", desc := "(II)I" } : Jvm.MethodName)) ∈ lw_tbl := lw_at lw_m7 125 rfl
theorem q1670 : (Jvm.Cond.instanceMethod ({ cls := "TitheBarnModel", name := "floor", desc := "(II)I" } : Jvm.MethodName)) ∈ lw_all := lw_g (lw_at lw_m7 126 rfl) rfl
theorem q1671 : (Jvm.Cond.code ({ cls := "TitheBarnModel", name := "floor", desc := "(II)I" } : Jvm.MethodName) prog_22_method_44_code (3 : Nat) (Option.some Jvm.ClassFile.FieldType.int)) ∈ lw_all := lw_g (lw_at lw_m7 127 rfl) rfl
theorem q1672 : (Jvm.Cond.methodLink "TitheBarnModel" (168 : Nat) ({ cls := "TitheBarnModel", name := "takes", desc := "(II)V" } : Jvm.MethodName)) ∈ lw_all := lw_g (lw_at lw_m7 128 rfl) rfl
theorem q1673 : (Jvm.Cond.privateMethod ({ cls := "TitheBarnModel", name := "takes", desc := "(II)V" } : Jvm.MethodName)) ∈ lw_tbl := lw_at lw_m7 129 rfl
theorem q1674 : (Jvm.Cond.instanceMethod ({ cls := "TitheBarnModel", name := "takes", desc := "(II)V" } : Jvm.MethodName)) ∈ lw_all := lw_g (lw_at lw_m7 130 rfl) rfl
theorem q1675 : (Jvm.Cond.code ({ cls := "TitheBarnModel", name := "takes", desc := "(II)V" } : Jvm.MethodName) prog_22_method_35_code (4 : Nat) (Option.none : Option Jvm.ClassFile.FieldType)) ∈ lw_all := lw_g (lw_at lw_m7 131 rfl) rfl
theorem q1677 : (Jvm.Cond.instanceMethod ({ cls := "TitheBarnModel", name := "flails", desc := "(II)I" } : Jvm.MethodName)) ∈ lw_all := lw_g (lw_at lw_m7 133 rfl) rfl
theorem q1678 : (Jvm.Cond.selects "TitheBarnModel" ({ cls := "TitheBarnModel", name := "flails", desc := "(II)I" } : Jvm.MethodName) ({ cls := "TitheBarnModel", name := "flails", desc := "(II)I" } : Jvm.MethodName)) ∈ lw_all := lw_g (lw_at lw_m7 134 rfl) rfl
theorem q1679 : (Jvm.Cond.code ({ cls := "TitheBarnModel", name := "flails", desc := "(II)I" } : Jvm.MethodName) prog_22_method_50_code (3 : Nat) (Option.some Jvm.ClassFile.FieldType.int)) ∈ lw_all := lw_g (lw_at lw_m7 135 rfl) rfl
theorem q1680 : (Jvm.Cond.methodLink "TitheBarnModel" (175 : Nat) ({ cls := "TitheBarnModel", name := "becomes", desc := "(II)I" } : Jvm.MethodName)) ∈ lw_all := lw_g (lw_at lw_m7 136 rfl) rfl
theorem q1681 : (Jvm.Cond.privateMethod ({ cls := "TitheBarnModel", name := "becomes", desc := "(II)I" } : Jvm.MethodName)) ∈ lw_tbl := lw_at lw_m7 137 rfl
theorem q1682 : (Jvm.Cond.instanceMethod ({ cls := "TitheBarnModel", name := "becomes", desc := "(II)I" } : Jvm.MethodName)) ∈ lw_all := lw_g (lw_at lw_m7 138 rfl) rfl
theorem q1683 : (Jvm.Cond.code ({ cls := "TitheBarnModel", name := "becomes", desc := "(II)I" } : Jvm.MethodName) prog_22_method_49_code (4 : Nat) (Option.some Jvm.ClassFile.FieldType.int)) ∈ lw_all := lw_g (lw_at lw_m7 139 rfl) rfl
theorem q1685 : (Jvm.Cond.instanceMethod ({ cls := "TitheBarnModel", name := "price", desc := "(II)I" } : Jvm.MethodName)) ∈ lw_all := lw_g (lw_at lw_m7 141 rfl) rfl
theorem q1686 : (Jvm.Cond.selects "TitheBarnModel" ({ cls := "TitheBarnModel", name := "price", desc := "(II)I" } : Jvm.MethodName) ({ cls := "TitheBarnModel", name := "price", desc := "(II)I" } : Jvm.MethodName)) ∈ lw_all := lw_g (lw_at lw_m7 142 rfl) rfl
theorem q1687 : (Jvm.Cond.code ({ cls := "TitheBarnModel", name := "price", desc := "(II)I" } : Jvm.MethodName) prog_22_method_51_code (3 : Nat) (Option.some Jvm.ClassFile.FieldType.int)) ∈ lw_all := lw_g (lw_at lw_m7 143 rfl) rfl
theorem q1689 : (Jvm.Cond.instanceMethod ({ cls := "TitheBarnModel", name := "floorOf", desc := "(II)I" } : Jvm.MethodName)) ∈ lw_all := lw_g (lw_at lw_m7 145 rfl) rfl
theorem q1690 : (Jvm.Cond.selects "TitheBarnModel" ({ cls := "TitheBarnModel", name := "floorOf", desc := "(II)I" } : Jvm.MethodName) ({ cls := "TitheBarnModel", name := "floorOf", desc := "(II)I" } : Jvm.MethodName)) ∈ lw_all := lw_g (lw_at lw_m7 146 rfl) rfl
theorem q1691 : (Jvm.Cond.code ({ cls := "TitheBarnModel", name := "floorOf", desc := "(II)I" } : Jvm.MethodName) prog_22_method_52_code (3 : Nat) (Option.some Jvm.ClassFile.FieldType.int)) ∈ lw_all := lw_g (lw_at lw_m7 147 rfl) rfl
theorem q1693 : (Jvm.Cond.instanceMethod ({ cls := "TitheBarnModel", name := "binOf", desc := "(II)I" } : Jvm.MethodName)) ∈ lw_all := lw_g (lw_at lw_m7 149 rfl) rfl
theorem q1694 : (Jvm.Cond.selects "TitheBarnModel" ({ cls := "TitheBarnModel", name := "binOf", desc := "(II)I" } : Jvm.MethodName) ({ cls := "TitheBarnModel", name := "binOf", desc := "(II)I" } : Jvm.MethodName)) ∈ lw_all := lw_g (lw_at lw_m7 150 rfl) rfl
theorem q1695 : (Jvm.Cond.code ({ cls := "TitheBarnModel", name := "binOf", desc := "(II)I" } : Jvm.MethodName) prog_22_method_53_code (3 : Nat) (Option.some Jvm.ClassFile.FieldType.int)) ∈ lw_all := lw_g (lw_at lw_m7 151 rfl) rfl
theorem q1696 : (Jvm.Cond.methodLink "TitheBarnModel" (178 : Nat) ({ cls := "TitheBarnModel", name := "store", desc := "(II)I" } : Jvm.MethodName)) ∈ lw_all := lw_g (lw_at lw_m7 152 rfl) rfl
theorem q1697 : (Jvm.Cond.privateMethod ({ cls := "TitheBarnModel", name := "store", desc := "(II)I" } : Jvm.MethodName)) ∈ lw_tbl := lw_at lw_m7 153 rfl
theorem q1698 : (Jvm.Cond.instanceMethod ({ cls := "TitheBarnModel", name := "store", desc := "(II)I" } : Jvm.MethodName)) ∈ lw_all := lw_g (lw_at lw_m7 154 rfl) rfl
theorem q1699 : (Jvm.Cond.code ({ cls := "TitheBarnModel", name := "store", desc := "(II)I" } : Jvm.MethodName) prog_22_method_45_code (3 : Nat) (Option.some Jvm.ClassFile.FieldType.int)) ∈ lw_all := lw_g (lw_at lw_m7 155 rfl) rfl
theorem q1701 : (Jvm.Cond.instanceMethod ({ cls := "TitheBarnModel", name := "sell", desc := "(III)I" } : Jvm.MethodName)) ∈ lw_all := lw_g (lw_at lw_m7 157 rfl) rfl
theorem q1702 : (Jvm.Cond.selects "TitheBarnModel" ({ cls := "TitheBarnModel", name := "sell", desc := "(III)I" } : Jvm.MethodName) ({ cls := "TitheBarnModel", name := "sell", desc := "(III)I" } : Jvm.MethodName)) ∈ lw_all := lw_g (lw_at lw_m7 158 rfl) rfl
theorem q1703 : (Jvm.Cond.code ({ cls := "TitheBarnModel", name := "sell", desc := "(III)I" } : Jvm.MethodName) prog_22_method_55_code (4 : Nat) (Option.some Jvm.ClassFile.FieldType.int)) ∈ lw_all := lw_g (lw_at lw_m7 159 rfl) rfl
theorem q1704 : (Jvm.Cond.methodLink "TitheBarnModel" (184 : Nat) ({ cls := "TitheBarnModel", name := "sells", desc := "(III)I" } : Jvm.MethodName)) ∈ lw_all := lw_g (lw_at lw_m7 160 rfl) rfl
theorem q1705 : (Jvm.Cond.privateMethod ({ cls := "TitheBarnModel", name := "sells", desc := "(III)I" } : Jvm.MethodName)) ∈ lw_tbl := lw_at lw_m7 161 rfl
theorem q1706 : (Jvm.Cond.instanceMethod ({ cls := "TitheBarnModel", name := "sells", desc := "(III)I" } : Jvm.MethodName)) ∈ lw_all := lw_g (lw_at lw_m7 162 rfl) rfl
theorem q1707 : (Jvm.Cond.code ({ cls := "TitheBarnModel", name := "sells", desc := "(III)I" } : Jvm.MethodName) prog_22_method_54_code (7 : Nat) (Option.some Jvm.ClassFile.FieldType.int)) ∈ lw_all := lw_g (lw_at lw_m7 163 rfl) rfl
theorem q1708 : (Jvm.Cond.methodLink "TitheBarnModel" (181 : Nat) ({ cls := "TitheBarnModel", name := "rats", desc := "(I)I" } : Jvm.MethodName)) ∈ lw_all := lw_g (lw_at lw_m7 164 rfl) rfl
theorem q1709 : (Jvm.Cond.privateMethod ({ cls := "TitheBarnModel", name := "rats", desc := "(I)I" } : Jvm.MethodName)) ∈ lw_tbl := lw_at lw_m7 165 rfl
theorem q1710 : (Jvm.Cond.instanceMethod ({ cls := "TitheBarnModel", name := "rats", desc := "(I)I" } : Jvm.MethodName)) ∈ lw_all := lw_g (lw_at lw_m7 166 rfl) rfl
theorem q1711 : (Jvm.Cond.code ({ cls := "TitheBarnModel", name := "rats", desc := "(I)I" } : Jvm.MethodName) prog_22_method_59_code (2 : Nat) (Option.some Jvm.ClassFile.FieldType.int)) ∈ lw_all := lw_g (lw_at lw_m7 167 rfl) rfl
theorem q1713 : (Jvm.Cond.instanceMethod ({ cls := "TitheBarnModel", name := "settle", desc := "(II)I" } : Jvm.MethodName)) ∈ lw_all := lw_g (lw_at lw_m7 169 rfl) rfl
theorem q1714 : (Jvm.Cond.selects "TitheBarnModel" ({ cls := "TitheBarnModel", name := "settle", desc := "(II)I" } : Jvm.MethodName) ({ cls := "TitheBarnModel", name := "settle", desc := "(II)I" } : Jvm.MethodName)) ∈ lw_all := lw_g (lw_at lw_m7 170 rfl) rfl
theorem q1715 : (Jvm.Cond.code ({ cls := "TitheBarnModel", name := "settle", desc := "(II)I" } : Jvm.MethodName) prog_22_method_57_code (3 : Nat) (Option.some Jvm.ClassFile.FieldType.int)) ∈ lw_all := lw_g (lw_at lw_m7 171 rfl) rfl
theorem q1716 : (Jvm.Cond.methodLink "TitheBarnModel" (187 : Nat) ({ cls := "TitheBarnModel", name := "settles", desc := "(II)I" } : Jvm.MethodName)) ∈ lw_all := lw_g (lw_at lw_m7 172 rfl) rfl
theorem q1717 : (Jvm.Cond.privateMethod ({ cls := "TitheBarnModel", name := "settles", desc := "(II)I" } : Jvm.MethodName)) ∈ lw_tbl := lw_at lw_m7 173 rfl
theorem q1718 : (Jvm.Cond.instanceMethod ({ cls := "TitheBarnModel", name := "settles", desc := "(II)I" } : Jvm.MethodName)) ∈ lw_all := lw_g (lw_at lw_m7 174 rfl) rfl
theorem q1719 : (Jvm.Cond.code ({ cls := "TitheBarnModel", name := "settles", desc := "(II)I" } : Jvm.MethodName) prog_22_method_56_code (3 : Nat) (Option.some Jvm.ClassFile.FieldType.int)) ∈ lw_all := lw_g (lw_at lw_m7 175 rfl) rfl
theorem q1721 : (Jvm.Cond.instanceMethod ({ cls := "TitheBarnModel", name := "stop", desc := "(I)I" } : Jvm.MethodName)) ∈ lw_all := lw_g (lw_at lw_m7 177 rfl) rfl
theorem q1722 : (Jvm.Cond.selects "TitheBarnModel" ({ cls := "TitheBarnModel", name := "stop", desc := "(I)I" } : Jvm.MethodName) ({ cls := "TitheBarnModel", name := "stop", desc := "(I)I" } : Jvm.MethodName)) ∈ lw_all := lw_g (lw_at lw_m7 178 rfl) rfl
theorem q1723 : (Jvm.Cond.code ({ cls := "TitheBarnModel", name := "stop", desc := "(I)I" } : Jvm.MethodName) prog_22_method_61_code (2 : Nat) (Option.some Jvm.ClassFile.FieldType.int)) ∈ lw_all := lw_g (lw_at lw_m7 179 rfl) rfl
theorem q1724 : (Jvm.Cond.methodLink "TitheBarnModel" (193 : Nat) ({ cls := "TitheBarnModel", name := "stops", desc := "(I)I" } : Jvm.MethodName)) ∈ lw_all := lw_g (lw_at lw_m7 180 rfl) rfl
theorem q1725 : (Jvm.Cond.privateMethod ({ cls := "TitheBarnModel", name := "stops", desc := "(I)I" } : Jvm.MethodName)) ∈ lw_tbl := lw_at lw_m7 181 rfl
theorem q1726 : (Jvm.Cond.instanceMethod ({ cls := "TitheBarnModel", name := "stops", desc := "(I)I" } : Jvm.MethodName)) ∈ lw_all := lw_g (lw_at lw_m7 182 rfl) rfl
theorem q1727 : (Jvm.Cond.code ({ cls := "TitheBarnModel", name := "stops", desc := "(I)I" } : Jvm.MethodName) prog_22_method_60_code (2 : Nat) (Option.some Jvm.ClassFile.FieldType.int)) ∈ lw_all := lw_g (lw_at lw_m7 183 rfl) rfl
theorem q1728 : (Jvm.Cond.methodLink "TitheBarnModel" (190 : Nat) ({ cls := "TitheBarnModel", name := "isPlace", desc := "(I)Z" } : Jvm.MethodName)) ∈ lw_all := lw_g (lw_at lw_m7 184 rfl) rfl
theorem q1729 : (Jvm.Cond.static ({ cls := "TitheBarnModel", name := "isPlace", desc := "(I)Z" } : Jvm.MethodName)) ∈ lw_all := lw_g (lw_at lw_m7 185 rfl) rfl
theorem q1730 : (Jvm.Cond.code ({ cls := "TitheBarnModel", name := "isPlace", desc := "(I)Z" } : Jvm.MethodName) prog_22_method_58_code (1 : Nat) (Option.some Jvm.ClassFile.FieldType.boolean)) ∈ lw_all := lw_g (lw_at lw_m7 186 rfl) rfl
theorem q1732 : (Jvm.Cond.instanceMethod ({ cls := "TitheBarnModel", name := "cat", desc := "(I)I" } : Jvm.MethodName)) ∈ lw_all := lw_g (lw_at lw_m7 188 rfl) rfl
theorem q1733 : (Jvm.Cond.selects "TitheBarnModel" ({ cls := "TitheBarnModel", name := "cat", desc := "(I)I" } : Jvm.MethodName) ({ cls := "TitheBarnModel", name := "cat", desc := "(I)I" } : Jvm.MethodName)) ∈ lw_all := lw_g (lw_at lw_m7 189 rfl) rfl
theorem q1734 : (Jvm.Cond.code ({ cls := "TitheBarnModel", name := "cat", desc := "(I)I" } : Jvm.MethodName) prog_22_method_63_code (2 : Nat) (Option.some Jvm.ClassFile.FieldType.int)) ∈ lw_all := lw_g (lw_at lw_m7 190 rfl) rfl
theorem q1735 : (Jvm.Cond.methodLink "TitheBarnModel" (196 : Nat) ({ cls := "TitheBarnModel", name := "comes", desc := "(I)I" } : Jvm.MethodName)) ∈ lw_all := lw_g (lw_at lw_m7 191 rfl) rfl
theorem q1736 : (Jvm.Cond.privateMethod ({ cls := "TitheBarnModel", name := "comes", desc := "(I)I" } : Jvm.MethodName)) ∈ lw_tbl := lw_at lw_m7 192 rfl
theorem q1737 : (Jvm.Cond.instanceMethod ({ cls := "TitheBarnModel", name := "comes", desc := "(I)I" } : Jvm.MethodName)) ∈ lw_all := lw_g (lw_at lw_m7 193 rfl) rfl
theorem q1738 : (Jvm.Cond.code ({ cls := "TitheBarnModel", name := "comes", desc := "(I)I" } : Jvm.MethodName) prog_22_method_62_code (3 : Nat) (Option.some Jvm.ClassFile.FieldType.int)) ∈ lw_all := lw_g (lw_at lw_m7 194 rfl) rfl
theorem q1740 : (Jvm.Cond.instanceMethod ({ cls := "TitheBarnModel", name := "placeOf", desc := "(II)I" } : Jvm.MethodName)) ∈ lw_all := lw_g (lw_at lw_m7 196 rfl) rfl
theorem q1741 : (Jvm.Cond.selects "TitheBarnModel" ({ cls := "TitheBarnModel", name := "placeOf", desc := "(II)I" } : Jvm.MethodName) ({ cls := "TitheBarnModel", name := "placeOf", desc := "(II)I" } : Jvm.MethodName)) ∈ lw_all := lw_g (lw_at lw_m7 197 rfl) rfl
theorem q1742 : (Jvm.Cond.code ({ cls := "TitheBarnModel", name := "placeOf", desc := "(II)I" } : Jvm.MethodName) prog_22_method_64_code (3 : Nat) (Option.some Jvm.ClassFile.FieldType.int)) ∈ lw_all := lw_g (lw_at lw_m7 198 rfl) rfl
theorem q1744 : (Jvm.Cond.instanceMethod ({ cls := "TitheBarnModel", name := "pass", desc := "(I)I" } : Jvm.MethodName)) ∈ lw_all := lw_g (lw_at lw_m7 200 rfl) rfl
theorem q1745 : (Jvm.Cond.selects "TitheBarnModel" ({ cls := "TitheBarnModel", name := "pass", desc := "(I)I" } : Jvm.MethodName) ({ cls := "TitheBarnModel", name := "pass", desc := "(I)I" } : Jvm.MethodName)) ∈ lw_all := lw_g (lw_at lw_m7 201 rfl) rfl
theorem q1746 : (Jvm.Cond.code ({ cls := "TitheBarnModel", name := "pass", desc := "(I)I" } : Jvm.MethodName) prog_22_method_72_code (2 : Nat) (Option.some Jvm.ClassFile.FieldType.int)) ∈ lw_all := lw_g (lw_at lw_m7 202 rfl) rfl
theorem q1747 : (Jvm.Cond.methodLink "TitheBarnModel" (223 : Nat) ({ cls := "TitheBarnModel", name := "passes", desc := "(I)I" } : Jvm.MethodName)) ∈ lw_all := lw_g (lw_at lw_m7 203 rfl) rfl
theorem q1748 : (Jvm.Cond.privateMethod ({ cls := "TitheBarnModel", name := "passes", desc := "(I)I" } : Jvm.MethodName)) ∈ lw_tbl := lw_at lw_m7 204 rfl
theorem q1749 : (Jvm.Cond.instanceMethod ({ cls := "TitheBarnModel", name := "passes", desc := "(I)I" } : Jvm.MethodName)) ∈ lw_all := lw_g (lw_at lw_m7 205 rfl) rfl
theorem q1750 : (Jvm.Cond.code ({ cls := "TitheBarnModel", name := "passes", desc := "(I)I" } : Jvm.MethodName) prog_22_method_71_code (4 : Nat) (Option.some Jvm.ClassFile.FieldType.int)) ∈ lw_all := lw_g (lw_at lw_m7 206 rfl) rfl
theorem q1751 : (Jvm.Cond.methodLink "TitheBarnModel" (219 : Nat) ({ cls := "TitheBarnModel", name := "day", desc := "()I" } : Jvm.MethodName)) ∈ lw_all := lw_g (lw_at lw_m7 207 rfl) rfl
theorem q1752 : (Jvm.Cond.privateMethod ({ cls := "TitheBarnModel", name := "day", desc := "()I" } : Jvm.MethodName)) ∈ lw_tbl := lw_at lw_m7 208 rfl
theorem q1753 : (Jvm.Cond.instanceMethod ({ cls := "TitheBarnModel", name := "day", desc := "()I" } : Jvm.MethodName)) ∈ lw_all := lw_g (lw_at lw_m7 209 rfl) rfl
theorem q1754 : (Jvm.Cond.code ({ cls := "TitheBarnModel", name := "day", desc := "()I" } : Jvm.MethodName) prog_22_method_70_code (3 : Nat) (Option.some Jvm.ClassFile.FieldType.int)) ∈ lw_all := lw_g (lw_at lw_m7 210 rfl) rfl
theorem q1755 : (Jvm.Cond.methodLink "TitheBarnModel" (210 : Nat) ({ cls := "TitheBarnModel", name := "threshedOn", desc := "(I)I" } : Jvm.MethodName)) ∈ lw_all := lw_g (lw_at lw_m7 211 rfl) rfl
theorem q1756 : (Jvm.Cond.privateMethod ({ cls := "TitheBarnModel", name := "threshedOn", desc := "(I)I" } : Jvm.MethodName)) ∈ lw_tbl := lw_at lw_m7 212 rfl
theorem q1757 : (Jvm.Cond.instanceMethod ({ cls := "TitheBarnModel", name := "threshedOn", desc := "(I)I" } : Jvm.MethodName)) ∈ lw_all := lw_g (lw_at lw_m7 213 rfl) rfl
theorem q1758 : (Jvm.Cond.code ({ cls := "TitheBarnModel", name := "threshedOn", desc := "(I)I" } : Jvm.MethodName) prog_22_method_65_code (5 : Nat) (Option.some Jvm.ClassFile.FieldType.int)) ∈ lw_all := lw_g (lw_at lw_m7 214 rfl) rfl
theorem q1759 : (Jvm.Cond.methodLink "TitheBarnModel" (199 : Nat) ({ cls := "java/lang/Math", name := "min", desc := "(II)I" } : Jvm.MethodName)) ∈ lw_all := lw_g (lw_at lw_m7 215 rfl) rfl
theorem q1760 : (Jvm.Cond.methodLink "TitheBarnModel" (213 : Nat) ({ cls := "TitheBarnModel", name := "eats", desc := "(I)V" } : Jvm.MethodName)) ∈ lw_all := lw_g (lw_at lw_m7 216 rfl) rfl
theorem q1761 : (Jvm.Cond.privateMethod ({ cls := "TitheBarnModel", name := "eats", desc := "(I)V" } : Jvm.MethodName)) ∈ lw_tbl := lw_at lw_m7 217 rfl
theorem q1762 : (Jvm.Cond.instanceMethod ({ cls := "TitheBarnModel", name := "eats", desc := "(I)V" } : Jvm.MethodName)) ∈ lw_all := lw_g (lw_at lw_m7 218 rfl) rfl
theorem q1763 : (Jvm.Cond.code ({ cls := "TitheBarnModel", name := "eats", desc := "(I)V" } : Jvm.MethodName) prog_22_method_68_code (4 : Nat) (Option.none : Option Jvm.ClassFile.FieldType)) ∈ lw_all := lw_g (lw_at lw_m7 219 rfl) rfl
theorem q1764 : (Jvm.Cond.methodLink "TitheBarnModel" (204 : Nat) ({ cls := "TitheBarnModel", name := "eatInBay", desc := "(I)I" } : Jvm.MethodName)) ∈ lw_all := lw_g (lw_at lw_m7 220 rfl) rfl
theorem q1765 : (Jvm.Cond.privateMethod ({ cls := "TitheBarnModel", name := "eatInBay", desc := "(I)I" } : Jvm.MethodName)) ∈ lw_tbl := lw_at lw_m7 221 rfl
theorem q1766 : (Jvm.Cond.instanceMethod ({ cls := "TitheBarnModel", name := "eatInBay", desc := "(I)I" } : Jvm.MethodName)) ∈ lw_all := lw_g (lw_at lw_m7 222 rfl) rfl
theorem q1767 : (Jvm.Cond.code ({ cls := "TitheBarnModel", name := "eatInBay", desc := "(I)I" } : Jvm.MethodName) prog_22_method_66_code (4 : Nat) (Option.some Jvm.ClassFile.FieldType.int)) ∈ lw_all := lw_g (lw_at lw_m7 223 rfl) rfl
theorem q1768 : (Jvm.Cond.methodLink "TitheBarnModel" (207 : Nat) ({ cls := "TitheBarnModel", name := "eatInBin", desc := "(I)I" } : Jvm.MethodName)) ∈ lw_all := lw_g (lw_at lw_m7 224 rfl) rfl
theorem q1769 : (Jvm.Cond.privateMethod ({ cls := "TitheBarnModel", name := "eatInBin", desc := "(I)I" } : Jvm.MethodName)) ∈ lw_tbl := lw_at lw_m7 225 rfl
theorem q1770 : (Jvm.Cond.instanceMethod ({ cls := "TitheBarnModel", name := "eatInBin", desc := "(I)I" } : Jvm.MethodName)) ∈ lw_all := lw_g (lw_at lw_m7 226 rfl) rfl
theorem q1771 : (Jvm.Cond.code ({ cls := "TitheBarnModel", name := "eatInBin", desc := "(I)I" } : Jvm.MethodName) prog_22_method_67_code (3 : Nat) (Option.some Jvm.ClassFile.FieldType.int)) ∈ lw_all := lw_g (lw_at lw_m7 227 rfl) rfl
theorem q1772 : (Jvm.Cond.methodLink "TitheBarnModel" (216 : Nat) ({ cls := "TitheBarnModel", name := "falls", desc := "(I)V" } : Jvm.MethodName)) ∈ lw_all := lw_g (lw_at lw_m7 228 rfl) rfl
theorem q1773 : (Jvm.Cond.privateMethod ({ cls := "TitheBarnModel", name := "falls", desc := "(I)V" } : Jvm.MethodName)) ∈ lw_tbl := lw_at lw_m7 229 rfl
theorem q1774 : (Jvm.Cond.instanceMethod ({ cls := "TitheBarnModel", name := "falls", desc := "(I)V" } : Jvm.MethodName)) ∈ lw_all := lw_g (lw_at lw_m7 230 rfl) rfl
theorem q1775 : (Jvm.Cond.code ({ cls := "TitheBarnModel", name := "falls", desc := "(I)V" } : Jvm.MethodName) prog_22_method_69_code (3 : Nat) (Option.none : Option Jvm.ClassFile.FieldType)) ∈ lw_all := lw_g (lw_at lw_m7 231 rfl) rfl
theorem q1777 : (Jvm.Cond.instanceMethod ({ cls := "TitheBarnModel", name := "lasts", desc := "(I)I" } : Jvm.MethodName)) ∈ lw_all := lw_g (lw_at lw_m7 233 rfl) rfl
theorem q1778 : (Jvm.Cond.selects "TitheBarnModel" ({ cls := "TitheBarnModel", name := "lasts", desc := "(I)I" } : Jvm.MethodName) ({ cls := "TitheBarnModel", name := "lasts", desc := "(I)I" } : Jvm.MethodName)) ∈ lw_all := lw_g (lw_at lw_m7 234 rfl) rfl
theorem q1779 : (Jvm.Cond.code ({ cls := "TitheBarnModel", name := "lasts", desc := "(I)I" } : Jvm.MethodName) prog_22_method_73_code (4 : Nat) (Option.some Jvm.ClassFile.FieldType.int)) ∈ lw_all := lw_g (lw_at lw_m7 235 rfl) rfl
theorem q1781 : (Jvm.Cond.instanceMethod ({ cls := "TitheBarnModel", name := "bestCat", desc := "(I)I" } : Jvm.MethodName)) ∈ lw_all := lw_g (lw_at lw_m7 237 rfl) rfl
theorem q1782 : (Jvm.Cond.selects "TitheBarnModel" ({ cls := "TitheBarnModel", name := "bestCat", desc := "(I)I" } : Jvm.MethodName) ({ cls := "TitheBarnModel", name := "bestCat", desc := "(I)I" } : Jvm.MethodName)) ∈ lw_all := lw_g (lw_at lw_m7 238 rfl) rfl
theorem q1783 : (Jvm.Cond.code ({ cls := "TitheBarnModel", name := "bestCat", desc := "(I)I" } : Jvm.MethodName) prog_22_method_75_code (6 : Nat) (Option.some Jvm.ClassFile.FieldType.int)) ∈ lw_all := lw_g (lw_at lw_m7 239 rfl) rfl
theorem q1784 : (Jvm.Cond.methodLink "TitheBarnModel" (226 : Nat) ({ cls := "TitheBarnModel", name := "eatenWith", desc := "(I)I" } : Jvm.MethodName)) ∈ lw_all := lw_g (lw_at lw_m8 0 rfl) rfl
theorem q1785 : (Jvm.Cond.privateMethod ({ cls := "TitheBarnModel", name := "eatenWith", desc := "(I)I" } : Jvm.MethodName)) ∈ lw_tbl := lw_at lw_m8 1 rfl
theorem q1786 : (Jvm.Cond.instanceMethod ({ cls := "TitheBarnModel", name := "eatenWith", desc := "(I)I" } : Jvm.MethodName)) ∈ lw_all := lw_g (lw_at lw_m8 2 rfl) rfl
theorem q1787 : (Jvm.Cond.code ({ cls := "TitheBarnModel", name := "eatenWith", desc := "(I)I" } : Jvm.MethodName) prog_22_method_74_code (4 : Nat) (Option.some Jvm.ClassFile.FieldType.int)) ∈ lw_all := lw_g (lw_at lw_m8 3 rfl) rfl
theorem q1788 : (Jvm.Cond.methodLink "TitheBarnModel" (229 : Nat) ({ cls := "java/lang/Math", name := "max", desc := "(II)I" } : Jvm.MethodName)) ∈ lw_all := lw_g (lw_at lw_m8 4 rfl) rfl
theorem q1790 : (Jvm.Cond.instanceMethod ({ cls := "TitheBarnModel", name := "ranked", desc := "(I)I" } : Jvm.MethodName)) ∈ lw_all := lw_g (lw_at lw_m8 6 rfl) rfl
theorem q1791 : (Jvm.Cond.selects "TitheBarnModel" ({ cls := "TitheBarnModel", name := "ranked", desc := "(I)I" } : Jvm.MethodName) ({ cls := "TitheBarnModel", name := "ranked", desc := "(I)I" } : Jvm.MethodName)) ∈ lw_all := lw_g (lw_at lw_m8 7 rfl) rfl
theorem q1792 : (Jvm.Cond.code ({ cls := "TitheBarnModel", name := "ranked", desc := "(I)I" } : Jvm.MethodName) prog_22_method_78_code (4 : Nat) (Option.some Jvm.ClassFile.FieldType.int)) ∈ lw_all := lw_g (lw_at lw_m8 8 rfl) rfl
theorem q1793 : (Jvm.Cond.methodLink "TitheBarnModel" (236 : Nat) ({ cls := "TitheBarnModel", name := "rankOf", desc := "(I)I" } : Jvm.MethodName)) ∈ lw_all := lw_g (lw_at lw_m8 9 rfl) rfl
theorem q1794 : (Jvm.Cond.privateMethod ({ cls := "TitheBarnModel", name := "rankOf", desc := "(I)I" } : Jvm.MethodName)) ∈ lw_tbl := lw_at lw_m8 10 rfl
theorem q1795 : (Jvm.Cond.instanceMethod ({ cls := "TitheBarnModel", name := "rankOf", desc := "(I)I" } : Jvm.MethodName)) ∈ lw_all := lw_g (lw_at lw_m8 11 rfl) rfl
theorem q1796 : (Jvm.Cond.code ({ cls := "TitheBarnModel", name := "rankOf", desc := "(I)I" } : Jvm.MethodName) prog_22_method_77_code (4 : Nat) (Option.some Jvm.ClassFile.FieldType.int)) ∈ lw_all := lw_g (lw_at lw_m8 12 rfl) rfl
theorem q1797 : (Jvm.Cond.methodLink "TitheBarnModel" (232 : Nat) ({ cls := "TitheBarnModel", name := "isAhead", desc := "(II)Z" } : Jvm.MethodName)) ∈ lw_all := lw_g (lw_at lw_m8 13 rfl) rfl
theorem q1798 : (Jvm.Cond.privateMethod ({ cls := "TitheBarnModel", name := "isAhead", desc := "(II)Z" } : Jvm.MethodName)) ∈ lw_tbl := lw_at lw_m8 14 rfl
theorem q1799 : (Jvm.Cond.instanceMethod ({ cls := "TitheBarnModel", name := "isAhead", desc := "(II)Z" } : Jvm.MethodName)) ∈ lw_all := lw_g (lw_at lw_m8 15 rfl) rfl
theorem q1800 : (Jvm.Cond.code ({ cls := "TitheBarnModel", name := "isAhead", desc := "(II)Z" } : Jvm.MethodName) prog_22_method_76_code (3 : Nat) (Option.some Jvm.ClassFile.FieldType.boolean)) ∈ lw_all := lw_g (lw_at lw_m8 16 rfl) rfl
theorem q1802 : (Jvm.Cond.instanceMethod ({ cls := "TitheBarnModel", name := "parishOf", desc := "(II)I" } : Jvm.MethodName)) ∈ lw_all := lw_g (lw_at lw_m8 18 rfl) rfl
theorem q1803 : (Jvm.Cond.selects "TitheBarnModel" ({ cls := "TitheBarnModel", name := "parishOf", desc := "(II)I" } : Jvm.MethodName) ({ cls := "TitheBarnModel", name := "parishOf", desc := "(II)I" } : Jvm.MethodName)) ∈ lw_all := lw_g (lw_at lw_m8 19 rfl) rfl
theorem q1804 : (Jvm.Cond.code ({ cls := "TitheBarnModel", name := "parishOf", desc := "(II)I" } : Jvm.MethodName) prog_22_method_80_code (3 : Nat) (Option.some Jvm.ClassFile.FieldType.int)) ∈ lw_all := lw_g (lw_at lw_m8 20 rfl) rfl
theorem q1805 : (Jvm.Cond.methodLink "TitheBarnModel" (239 : Nat) ({ cls := "TitheBarnModel", name := "inBays", desc := "(I)I" } : Jvm.MethodName)) ∈ lw_all := lw_g (lw_at lw_m8 21 rfl) rfl
theorem q1806 : (Jvm.Cond.privateMethod ({ cls := "TitheBarnModel", name := "inBays", desc := "(I)I" } : Jvm.MethodName)) ∈ lw_tbl := lw_at lw_m8 22 rfl
theorem q1807 : (Jvm.Cond.instanceMethod ({ cls := "TitheBarnModel", name := "inBays", desc := "(I)I" } : Jvm.MethodName)) ∈ lw_all := lw_g (lw_at lw_m8 23 rfl) rfl
theorem q1808 : (Jvm.Cond.code ({ cls := "TitheBarnModel", name := "inBays", desc := "(I)I" } : Jvm.MethodName) prog_22_method_79_code (5 : Nat) (Option.some Jvm.ClassFile.FieldType.int)) ∈ lw_all := lw_g (lw_at lw_m8 24 rfl) rfl
theorem q1810 : (Jvm.Cond.instanceMethod ({ cls := "TitheBarnModel", name := "grain", desc := "(I)I" } : Jvm.MethodName)) ∈ lw_all := lw_g (lw_at lw_m8 26 rfl) rfl
theorem q1811 : (Jvm.Cond.selects "TitheBarnModel" ({ cls := "TitheBarnModel", name := "grain", desc := "(I)I" } : Jvm.MethodName) ({ cls := "TitheBarnModel", name := "grain", desc := "(I)I" } : Jvm.MethodName)) ∈ lw_all := lw_g (lw_at lw_m8 27 rfl) rfl
theorem q1812 : (Jvm.Cond.code ({ cls := "TitheBarnModel", name := "grain", desc := "(I)I" } : Jvm.MethodName) prog_22_method_82_code (2 : Nat) (Option.some Jvm.ClassFile.FieldType.int)) ∈ lw_all := lw_g (lw_at lw_m8 28 rfl) rfl
theorem q1813 : (Jvm.Cond.methodLink "TitheBarnModel" (242 : Nat) ({ cls := "TitheBarnModel", name := "sum", desc := "(I)I" } : Jvm.MethodName)) ∈ lw_all := lw_g (lw_at lw_m8 29 rfl) rfl
theorem q1814 : (Jvm.Cond.privateMethod ({ cls := "TitheBarnModel", name := "sum", desc := "(I)I" } : Jvm.MethodName)) ∈ lw_tbl := lw_at lw_m8 30 rfl
theorem q1815 : (Jvm.Cond.instanceMethod ({ cls := "TitheBarnModel", name := "sum", desc := "(I)I" } : Jvm.MethodName)) ∈ lw_all := lw_g (lw_at lw_m8 31 rfl) rfl
theorem q1816 : (Jvm.Cond.code ({ cls := "TitheBarnModel", name := "sum", desc := "(I)I" } : Jvm.MethodName) prog_22_method_81_code (4 : Nat) (Option.some Jvm.ClassFile.FieldType.int)) ∈ lw_all := lw_g (lw_at lw_m8 32 rfl) rfl
theorem q1818 : (Jvm.Cond.instanceMethod ({ cls := "TitheBarnModel", name := "grainAgain", desc := "()I" } : Jvm.MethodName)) ∈ lw_all := lw_g (lw_at lw_m8 34 rfl) rfl
theorem q1819 : (Jvm.Cond.selects "TitheBarnModel" ({ cls := "TitheBarnModel", name := "grainAgain", desc := "()I" } : Jvm.MethodName) ({ cls := "TitheBarnModel", name := "grainAgain", desc := "()I" } : Jvm.MethodName)) ∈ lw_all := lw_g (lw_at lw_m8 35 rfl) rfl
theorem q1820 : (Jvm.Cond.code ({ cls := "TitheBarnModel", name := "grainAgain", desc := "()I" } : Jvm.MethodName) prog_22_method_83_code (1 : Nat) (Option.some Jvm.ClassFile.FieldType.int)) ∈ lw_all := lw_g (lw_at lw_m8 36 rfl) rfl
theorem q1822 : (Jvm.Cond.instanceMethod ({ cls := "TitheBarnModel", name := "share", desc := "(I)F" } : Jvm.MethodName)) ∈ lw_all := lw_g (lw_at lw_m8 38 rfl) rfl
theorem q1823 : (Jvm.Cond.selects "TitheBarnModel" ({ cls := "TitheBarnModel", name := "share", desc := "(I)F" } : Jvm.MethodName) ({ cls := "TitheBarnModel", name := "share", desc := "(I)F" } : Jvm.MethodName)) ∈ lw_all := lw_g (lw_at lw_m8 39 rfl) rfl
theorem q1824 : (Jvm.Cond.code ({ cls := "TitheBarnModel", name := "share", desc := "(I)F" } : Jvm.MethodName) prog_22_method_85_code (3 : Nat) (Option.some Jvm.ClassFile.FieldType.float)) ∈ lw_all := lw_g (lw_at lw_m8 40 rfl) rfl
theorem q1825 : (Jvm.Cond.methodLink "TitheBarnModel" (245 : Nat) ({ cls := "TitheBarnModel", name := "total", desc := "(I)I" } : Jvm.MethodName)) ∈ lw_all := lw_g (lw_at lw_m8 41 rfl) rfl
theorem q1826 : (Jvm.Cond.privateMethod ({ cls := "TitheBarnModel", name := "total", desc := "(I)I" } : Jvm.MethodName)) ∈ lw_tbl := lw_at lw_m8 42 rfl
theorem q1827 : (Jvm.Cond.instanceMethod ({ cls := "TitheBarnModel", name := "total", desc := "(I)I" } : Jvm.MethodName)) ∈ lw_all := lw_g (lw_at lw_m8 43 rfl) rfl
theorem q1828 : (Jvm.Cond.code ({ cls := "TitheBarnModel", name := "total", desc := "(I)I" } : Jvm.MethodName) prog_22_method_84_code (4 : Nat) (Option.some Jvm.ClassFile.FieldType.int)) ∈ lw_all := lw_g (lw_at lw_m8 44 rfl) rfl
theorem q1830 : (Jvm.Cond.instanceMethod ({ cls := "TitheBarnModel", name := "meanRats", desc := "()D" } : Jvm.MethodName)) ∈ lw_all := lw_g (lw_at lw_m8 46 rfl) rfl
theorem q1831 : (Jvm.Cond.selects "TitheBarnModel" ({ cls := "TitheBarnModel", name := "meanRats", desc := "()D" } : Jvm.MethodName) ({ cls := "TitheBarnModel", name := "meanRats", desc := "()D" } : Jvm.MethodName)) ∈ lw_all := lw_g (lw_at lw_m8 47 rfl) rfl
theorem q1832 : (Jvm.Cond.code ({ cls := "TitheBarnModel", name := "meanRats", desc := "()D" } : Jvm.MethodName) prog_22_method_87_code (1 : Nat) (Option.some Jvm.ClassFile.FieldType.double)) ∈ lw_all := lw_g (lw_at lw_m8 48 rfl) rfl
theorem q1833 : (Jvm.Cond.methodLink "TitheBarnModel" (248 : Nat) ({ cls := "TitheBarnModel", name := "allAt", desc := "(I)I" } : Jvm.MethodName)) ∈ lw_all := lw_g (lw_at lw_m8 49 rfl) rfl
theorem q1834 : (Jvm.Cond.privateMethod ({ cls := "TitheBarnModel", name := "allAt", desc := "(I)I" } : Jvm.MethodName)) ∈ lw_tbl := lw_at lw_m8 50 rfl
theorem q1835 : (Jvm.Cond.instanceMethod ({ cls := "TitheBarnModel", name := "allAt", desc := "(I)I" } : Jvm.MethodName)) ∈ lw_all := lw_g (lw_at lw_m8 51 rfl) rfl
theorem q1836 : (Jvm.Cond.code ({ cls := "TitheBarnModel", name := "allAt", desc := "(I)I" } : Jvm.MethodName) prog_22_method_86_code (4 : Nat) (Option.some Jvm.ClassFile.FieldType.int)) ∈ lw_all := lw_g (lw_at lw_m8 52 rfl) rfl
theorem q1837 : (Jvm.Cond.constantDouble "TitheBarnModel" (251 : Nat) (4619567317775286272 : UInt64)) ∈ lw_all := lw_g (lw_at lw_m8 53 rfl) rfl
theorem q1839 : (Jvm.Cond.instanceMethod ({ cls := "TitheBarnModel", name := "script", desc := "()I" } : Jvm.MethodName)) ∈ lw_all := lw_g (lw_at lw_m8 55 rfl) rfl
theorem q1840 : (Jvm.Cond.selects "TitheBarnModel" ({ cls := "TitheBarnModel", name := "script", desc := "()I" } : Jvm.MethodName) ({ cls := "TitheBarnModel", name := "script", desc := "()I" } : Jvm.MethodName)) ∈ lw_all := lw_g (lw_at lw_m8 56 rfl) rfl
theorem q1841 : (Jvm.Cond.code ({ cls := "TitheBarnModel", name := "script", desc := "()I" } : Jvm.MethodName) prog_22_method_97_code (2 : Nat) (Option.some Jvm.ClassFile.FieldType.int)) ∈ lw_all := lw_g (lw_at lw_m8 57 rfl) rfl
theorem q1842 : (Jvm.Cond.methodLink "TitheBarnModel" (286 : Nat) ({ cls := "TitheBarnModel", name := "readsAll", desc := "()V" } : Jvm.MethodName)) ∈ lw_all := lw_g (lw_at lw_m8 58 rfl) rfl
theorem q1843 : (Jvm.Cond.privateMethod ({ cls := "TitheBarnModel", name := "readsAll", desc := "()V" } : Jvm.MethodName)) ∈ lw_tbl := lw_at lw_m8 59 rfl
theorem q1844 : (Jvm.Cond.instanceMethod ({ cls := "TitheBarnModel", name := "readsAll", desc := "()V" } : Jvm.MethodName)) ∈ lw_all := lw_g (lw_at lw_m8 60 rfl) rfl
theorem q1845 : (Jvm.Cond.code ({ cls := "TitheBarnModel", name := "readsAll", desc := "()V" } : Jvm.MethodName) prog_22_method_95_code (2 : Nat) (Option.none : Option Jvm.ClassFile.FieldType)) ∈ lw_all := lw_g (lw_at lw_m8 61 rfl) rfl
theorem q1846 : (Jvm.Cond.methodLink "TitheBarnModel" (283 : Nat) ({ cls := "TitheBarnModel", name := "readsCommand", desc := "()V" } : Jvm.MethodName)) ∈ lw_all := lw_g (lw_at lw_m8 62 rfl) rfl
theorem q1847 : (Jvm.Cond.privateMethod ({ cls := "TitheBarnModel", name := "readsCommand", desc := "()V" } : Jvm.MethodName)) ∈ lw_tbl := lw_at lw_m8 63 rfl
theorem q1848 : (Jvm.Cond.instanceMethod ({ cls := "TitheBarnModel", name := "readsCommand", desc := "()V" } : Jvm.MethodName)) ∈ lw_all := lw_g (lw_at lw_m8 64 rfl) rfl
theorem q1849 : (Jvm.Cond.code ({ cls := "TitheBarnModel", name := "readsCommand", desc := "()V" } : Jvm.MethodName) prog_22_method_94_code (3 : Nat) (Option.none : Option Jvm.ClassFile.FieldType)) ∈ lw_all := lw_g (lw_at lw_m8 65 rfl) rfl
theorem q1850 : (Jvm.Cond.methodLink "TitheBarnModel" (262 : Nat) ({ cls := "TitheBarnModel", name := "sign", desc := "()I" } : Jvm.MethodName)) ∈ lw_all := lw_g (lw_at lw_m8 66 rfl) rfl
theorem q1851 : (Jvm.Cond.privateMethod ({ cls := "TitheBarnModel", name := "sign", desc := "()I" } : Jvm.MethodName)) ∈ lw_tbl := lw_at lw_m8 67 rfl
theorem q1852 : (Jvm.Cond.instanceMethod ({ cls := "TitheBarnModel", name := "sign", desc := "()I" } : Jvm.MethodName)) ∈ lw_all := lw_g (lw_at lw_m8 68 rfl) rfl
theorem q1853 : (Jvm.Cond.code ({ cls := "TitheBarnModel", name := "sign", desc := "()I" } : Jvm.MethodName) prog_22_method_88_code (1 : Nat) (Option.some Jvm.ClassFile.FieldType.int)) ∈ lw_all := lw_g (lw_at lw_m8 69 rfl) rfl
theorem q1854 : (Jvm.Cond.methodLink "TitheBarnModel" (265 : Nat) ({ cls := "TitheBarnModel", name := "reads", desc := "(II)I" } : Jvm.MethodName)) ∈ lw_all := lw_g (lw_at lw_m8 70 rfl) rfl
theorem q1855 : (Jvm.Cond.privateMethod ({ cls := "TitheBarnModel", name := "reads", desc := "(II)I" } : Jvm.MethodName)) ∈ lw_tbl := lw_at lw_m8 71 rfl
theorem q1856 : (Jvm.Cond.instanceMethod ({ cls := "TitheBarnModel", name := "reads", desc := "(II)I" } : Jvm.MethodName)) ∈ lw_all := lw_g (lw_at lw_m8 72 rfl) rfl
theorem q1857 : (Jvm.Cond.code ({ cls := "TitheBarnModel", name := "reads", desc := "(II)I" } : Jvm.MethodName) prog_22_method_89_code (3 : Nat) (Option.some Jvm.ClassFile.FieldType.int)) ∈ lw_all := lw_g (lw_at lw_m8 73 rfl) rfl
theorem q1858 : (Jvm.Cond.methodLink "TitheBarnModel" (274 : Nat) ({ cls := "TitheBarnModel", name := "tells", desc := "(II)V" } : Jvm.MethodName)) ∈ lw_all := lw_g (lw_at lw_m8 74 rfl) rfl
theorem q1859 : (Jvm.Cond.privateMethod ({ cls := "TitheBarnModel", name := "tells", desc := "(II)V" } : Jvm.MethodName)) ∈ lw_tbl := lw_at lw_m8 75 rfl
theorem q1860 : (Jvm.Cond.instanceMethod ({ cls := "TitheBarnModel", name := "tells", desc := "(II)V" } : Jvm.MethodName)) ∈ lw_all := lw_g (lw_at lw_m8 76 rfl) rfl
theorem q1861 : (Jvm.Cond.code ({ cls := "TitheBarnModel", name := "tells", desc := "(II)V" } : Jvm.MethodName) prog_22_method_91_code (3 : Nat) (Option.none : Option Jvm.ClassFile.FieldType)) ∈ lw_all := lw_g (lw_at lw_m8 77 rfl) rfl
theorem q1862 : (Jvm.Cond.methodLink "TitheBarnModel" (277 : Nat) ({ cls := "TitheBarnModel", name := "number", desc := "()I" } : Jvm.MethodName)) ∈ lw_all := lw_g (lw_at lw_m8 78 rfl) rfl
theorem q1863 : (Jvm.Cond.privateMethod ({ cls := "TitheBarnModel", name := "number", desc := "()I" } : Jvm.MethodName)) ∈ lw_tbl := lw_at lw_m8 79 rfl
theorem q1864 : (Jvm.Cond.instanceMethod ({ cls := "TitheBarnModel", name := "number", desc := "()I" } : Jvm.MethodName)) ∈ lw_all := lw_g (lw_at lw_m8 80 rfl) rfl
theorem q1865 : (Jvm.Cond.code ({ cls := "TitheBarnModel", name := "number", desc := "()I" } : Jvm.MethodName) prog_22_method_90_code (3 : Nat) (Option.some Jvm.ClassFile.FieldType.int)) ∈ lw_all := lw_g (lw_at lw_m8 81 rfl) rfl
theorem q1866 : (Jvm.Cond.methodLink "TitheBarnModel" (280 : Nat) ({ cls := "TitheBarnModel", name := "readsSale", desc := "()V" } : Jvm.MethodName)) ∈ lw_all := lw_g (lw_at lw_m8 82 rfl) rfl
theorem q1867 : (Jvm.Cond.privateMethod ({ cls := "TitheBarnModel", name := "readsSale", desc := "()V" } : Jvm.MethodName)) ∈ lw_tbl := lw_at lw_m8 83 rfl
theorem q1868 : (Jvm.Cond.instanceMethod ({ cls := "TitheBarnModel", name := "readsSale", desc := "()V" } : Jvm.MethodName)) ∈ lw_all := lw_g (lw_at lw_m8 84 rfl) rfl
theorem q1869 : (Jvm.Cond.code ({ cls := "TitheBarnModel", name := "readsSale", desc := "()V" } : Jvm.MethodName) prog_22_method_93_code (2 : Nat) (Option.none : Option Jvm.ClassFile.FieldType)) ∈ lw_all := lw_g (lw_at lw_m8 85 rfl) rfl
theorem q1870 : (Jvm.Cond.methodLink "TitheBarnModel" (271 : Nat) ({ cls := "TitheBarnModel", name := "readsKind", desc := "()I" } : Jvm.MethodName)) ∈ lw_all := lw_g (lw_at lw_m8 86 rfl) rfl
theorem q1871 : (Jvm.Cond.privateMethod ({ cls := "TitheBarnModel", name := "readsKind", desc := "()I" } : Jvm.MethodName)) ∈ lw_tbl := lw_at lw_m8 87 rfl
theorem q1872 : (Jvm.Cond.instanceMethod ({ cls := "TitheBarnModel", name := "readsKind", desc := "()I" } : Jvm.MethodName)) ∈ lw_all := lw_g (lw_at lw_m8 88 rfl) rfl
theorem q1873 : (Jvm.Cond.code ({ cls := "TitheBarnModel", name := "readsKind", desc := "()I" } : Jvm.MethodName) prog_22_method_92_code (3 : Nat) (Option.some Jvm.ClassFile.FieldType.int)) ∈ lw_all := lw_g (lw_at lw_m8 89 rfl) rfl
theorem q1874 : (Jvm.Cond.methodLink "TitheBarnModel" (289 : Nat) ({ cls := "TitheBarnModel", name := "does", desc := "(IIII)I" } : Jvm.MethodName)) ∈ lw_all := lw_g (lw_at lw_m8 90 rfl) rfl
theorem q1875 : (Jvm.Cond.privateMethod ({ cls := "TitheBarnModel", name := "does", desc := "(IIII)I" } : Jvm.MethodName)) ∈ lw_tbl := lw_at lw_m8 91 rfl
theorem q1876 : (Jvm.Cond.instanceMethod ({ cls := "TitheBarnModel", name := "does", desc := "(IIII)I" } : Jvm.MethodName)) ∈ lw_all := lw_g (lw_at lw_m8 92 rfl) rfl
theorem q1877 : (Jvm.Cond.code ({ cls := "TitheBarnModel", name := "does", desc := "(IIII)I" } : Jvm.MethodName) prog_22_method_96_code (5 : Nat) (Option.some Jvm.ClassFile.FieldType.int)) ∈ lw_all := lw_g (lw_at lw_m8 93 rfl) rfl
theorem q1879 : (Jvm.Cond.instanceMethod ({ cls := "TitheBarnModel", name := "fault", desc := "()I" } : Jvm.MethodName)) ∈ lw_all := lw_g (lw_at lw_m8 95 rfl) rfl
theorem q1880 : (Jvm.Cond.selects "TitheBarnModel" ({ cls := "TitheBarnModel", name := "fault", desc := "()I" } : Jvm.MethodName) ({ cls := "TitheBarnModel", name := "fault", desc := "()I" } : Jvm.MethodName)) ∈ lw_all := lw_g (lw_at lw_m8 96 rfl) rfl
theorem q1881 : (Jvm.Cond.code ({ cls := "TitheBarnModel", name := "fault", desc := "()I" } : Jvm.MethodName) prog_22_method_98_code (1 : Nat) (Option.some Jvm.ClassFile.FieldType.int)) ∈ lw_all := lw_g (lw_at lw_m8 97 rfl) rfl
theorem q1883 : (Jvm.Cond.instanceMethod ({ cls := "TitheBarnModel", name := "describe", desc := "(I)I" } : Jvm.MethodName)) ∈ lw_all := lw_g (lw_at lw_m8 99 rfl) rfl
theorem q1884 : (Jvm.Cond.selects "TitheBarnModel" ({ cls := "TitheBarnModel", name := "describe", desc := "(I)I" } : Jvm.MethodName) ({ cls := "TitheBarnModel", name := "describe", desc := "(I)I" } : Jvm.MethodName)) ∈ lw_all := lw_g (lw_at lw_m8 100 rfl) rfl
theorem q1885 : (Jvm.Cond.code ({ cls := "TitheBarnModel", name := "describe", desc := "(I)I" } : Jvm.MethodName) prog_22_method_101_code (5 : Nat) (Option.some Jvm.ClassFile.FieldType.int)) ∈ lw_all := lw_g (lw_at lw_m8 101 rfl) rfl
theorem q1886 : (Jvm.Cond.methodLink "TitheBarnModel" (295 : Nat) ({ cls := "TitheBarnModel", name := "writes", desc := "(II)I" } : Jvm.MethodName)) ∈ lw_all := lw_g (lw_at lw_m8 102 rfl) rfl
theorem q1887 : (Jvm.Cond.privateMethod ({ cls := "TitheBarnModel", name := "writes", desc := "(II)I" } : Jvm.MethodName)) ∈ lw_tbl := lw_at lw_m8 103 rfl
theorem q1888 : (Jvm.Cond.instanceMethod ({ cls := "TitheBarnModel", name := "writes", desc := "(II)I" } : Jvm.MethodName)) ∈ lw_all := lw_g (lw_at lw_m8 104 rfl) rfl
theorem q1889 : (Jvm.Cond.code ({ cls := "TitheBarnModel", name := "writes", desc := "(II)I" } : Jvm.MethodName) prog_22_method_100_code (5 : Nat) (Option.some Jvm.ClassFile.FieldType.int)) ∈ lw_all := lw_g (lw_at lw_m8 105 rfl) rfl
theorem q1890 : (Jvm.Cond.methodLink "TitheBarnModel" (292 : Nat) ({ cls := "TitheBarnModel", name := "put", desc := "(II)I" } : Jvm.MethodName)) ∈ lw_all := lw_g (lw_at lw_m8 106 rfl) rfl
theorem q1891 : (Jvm.Cond.privateMethod ({ cls := "TitheBarnModel", name := "put", desc := "(II)I" } : Jvm.MethodName)) ∈ lw_tbl := lw_at lw_m8 107 rfl
theorem q1892 : (Jvm.Cond.instanceMethod ({ cls := "TitheBarnModel", name := "put", desc := "(II)I" } : Jvm.MethodName)) ∈ lw_all := lw_g (lw_at lw_m8 108 rfl) rfl
theorem q1893 : (Jvm.Cond.code ({ cls := "TitheBarnModel", name := "put", desc := "(II)I" } : Jvm.MethodName) prog_22_method_99_code (3 : Nat) (Option.some Jvm.ClassFile.FieldType.int)) ∈ lw_all := lw_g (lw_at lw_m8 109 rfl) rfl
theorem q1895 : (Jvm.Cond.instanceMethod ({ cls := "TitheBarnModel", name := "written", desc := "(I)I" } : Jvm.MethodName)) ∈ lw_all := lw_g (lw_at lw_m8 111 rfl) rfl
theorem q1896 : (Jvm.Cond.selects "TitheBarnModel" ({ cls := "TitheBarnModel", name := "written", desc := "(I)I" } : Jvm.MethodName) ({ cls := "TitheBarnModel", name := "written", desc := "(I)I" } : Jvm.MethodName)) ∈ lw_all := lw_g (lw_at lw_m8 112 rfl) rfl
theorem q1897 : (Jvm.Cond.code ({ cls := "TitheBarnModel", name := "written", desc := "(I)I" } : Jvm.MethodName) prog_22_method_102_code (2 : Nat) (Option.some Jvm.ClassFile.FieldType.int)) ∈ lw_all := lw_g (lw_at lw_m8 113 rfl) rfl
theorem q1899 : (Jvm.Cond.instanceMethod ({ cls := "TitheBarnModel", name := "account", desc := "(I)I" } : Jvm.MethodName)) ∈ lw_all := lw_g (lw_at lw_m8 115 rfl) rfl
theorem q1900 : (Jvm.Cond.selects "TitheBarnModel" ({ cls := "TitheBarnModel", name := "account", desc := "(I)I" } : Jvm.MethodName) ({ cls := "TitheBarnModel", name := "account", desc := "(I)I" } : Jvm.MethodName)) ∈ lw_all := lw_g (lw_at lw_m8 116 rfl) rfl
theorem q1901 : (Jvm.Cond.code ({ cls := "TitheBarnModel", name := "account", desc := "(I)I" } : Jvm.MethodName) prog_22_method_106_code (2 : Nat) (Option.some Jvm.ClassFile.FieldType.int)) ∈ lw_all := lw_g (lw_at lw_m8 117 rfl) rfl
theorem q1902 : (Jvm.Cond.methodLink "TitheBarnModel" (301 : Nat) ({ cls := "TitheBarnModel", name := "allInBays", desc := "()I" } : Jvm.MethodName)) ∈ lw_all := lw_g (lw_at lw_m8 118 rfl) rfl
theorem q1903 : (Jvm.Cond.privateMethod ({ cls := "TitheBarnModel", name := "allInBays", desc := "()I" } : Jvm.MethodName)) ∈ lw_tbl := lw_at lw_m8 119 rfl
theorem q1904 : (Jvm.Cond.instanceMethod ({ cls := "TitheBarnModel", name := "allInBays", desc := "()I" } : Jvm.MethodName)) ∈ lw_all := lw_g (lw_at lw_m8 120 rfl) rfl
theorem q1905 : (Jvm.Cond.code ({ cls := "TitheBarnModel", name := "allInBays", desc := "()I" } : Jvm.MethodName) prog_22_method_104_code (3 : Nat) (Option.some Jvm.ClassFile.FieldType.int)) ∈ lw_all := lw_g (lw_at lw_m8 121 rfl) rfl
theorem q1906 : (Jvm.Cond.methodLink "TitheBarnModel" (304 : Nat) ({ cls := "TitheBarnModel", name := "onFloors", desc := "()I" } : Jvm.MethodName)) ∈ lw_all := lw_g (lw_at lw_m8 122 rfl) rfl
theorem q1907 : (Jvm.Cond.privateMethod ({ cls := "TitheBarnModel", name := "onFloors", desc := "()I" } : Jvm.MethodName)) ∈ lw_tbl := lw_at lw_m8 123 rfl
theorem q1908 : (Jvm.Cond.instanceMethod ({ cls := "TitheBarnModel", name := "onFloors", desc := "()I" } : Jvm.MethodName)) ∈ lw_all := lw_g (lw_at lw_m8 124 rfl) rfl
theorem q1909 : (Jvm.Cond.code ({ cls := "TitheBarnModel", name := "onFloors", desc := "()I" } : Jvm.MethodName) prog_22_method_103_code (1 : Nat) (Option.some Jvm.ClassFile.FieldType.int)) ∈ lw_all := lw_g (lw_at lw_m8 125 rfl) rfl
theorem q1910 : (Jvm.Cond.methodLink "TitheBarnModel" (307 : Nat) ({ cls := "TitheBarnModel", name := "bushels", desc := "()I" } : Jvm.MethodName)) ∈ lw_all := lw_g (lw_at lw_m8 126 rfl) rfl
theorem q1911 : (Jvm.Cond.privateMethod ({ cls := "TitheBarnModel", name := "bushels", desc := "()I" } : Jvm.MethodName)) ∈ lw_tbl := lw_at lw_m8 127 rfl
theorem q1912 : (Jvm.Cond.instanceMethod ({ cls := "TitheBarnModel", name := "bushels", desc := "()I" } : Jvm.MethodName)) ∈ lw_all := lw_g (lw_at lw_m8 128 rfl) rfl
theorem q1913 : (Jvm.Cond.code ({ cls := "TitheBarnModel", name := "bushels", desc := "()I" } : Jvm.MethodName) prog_22_method_105_code (1 : Nat) (Option.some Jvm.ClassFile.FieldType.int)) ∈ lw_all := lw_g (lw_at lw_m8 129 rfl) rfl
theorem q1934 : (Jvm.Cond.castable "TitheBarnModel" "java/lang/Object") ∈ lw_tbl := lw_at lw_m8 150 rfl
theorem in_X8 : ∀ w ∈ wsX80, w ∈ lw_all := lw_in wsX80 [1454, 1456, 1458, 1460, 1462, 1464, 1466, 1468, 1470, 1472, 1474, 1476, 1478, 1480, 1482, 1484, 1486, 1488, 1490, 1492, 1494, 1496, 1498] (by decide +kernel) (by decide +kernel)
/-! TitheBarn$Wrong -/
def RX9 : String := "TitheBarn$Wrong"
def TX9 : u_T := fun k => match k with
  | 0 => ("java/lang/Throwable", "cause", "Ljava/lang/Throwable;", false)
  | 1 => ("java/lang/Throwable", "stackTrace", "[Ljava/lang/StackTraceElement;", false)
  | 2 => ("java/lang/Throwable", "suppressedExceptions", "Ljava/util/List;", false)
  | 3 => ("java/lang/Throwable", "detailMessage", "Ljava/lang/String;", false)
  | 4 => ("java/lang/Throwable", "backtrace", "Ljava/lang/Object;", false)
  | 5 => ("java/lang/Throwable", "depth", "I", false)
  | _ => ("TitheBarn$Wrong", "code", "I", true)
def tyX9 : Nat → FieldType := fun k => match k with
  | 0 => .object "java/lang/Throwable"
  | 1 => .array (.object "java/lang/StackTraceElement")
  | 2 => .object "java/util/List"
  | 3 => .object "java/lang/String"
  | 4 => .object "java/lang/Object"
  | 5 => .int
  | _ => .int
abbrev wsX90 : List Cond := u_ws RX9 TX9 7
theorem nmX9 : ∀ a, a < 7 → ∀ b, b < 7 → a ≠ b → (TX9 a).2.1 ≠ (TX9 b).2.1 := by decide +kernel
theorem tyX9_ok : ∀ k, k < 7 → parseFieldDescriptor (TX9 k).2.2.1 = some (tyX9 k) := by decide +kernel
abbrev cX9_init : ByteArray := prog_20_method_1_code
def yX9_init : MethodName := ⟨RX9, "<init>", "(I)V"⟩
theorem q126 : (Jvm.Cond.initialized "TitheBarn$Wrong") ∈ lw_all := lw_g (lw_at lw_m1 22 rfl) rfl
theorem q516 : (Jvm.Cond.instantiable "TitheBarn$Wrong" (7 : Nat)) ∈ lw_all := lw_g (lw_at lw_m2 172 rfl) rfl
theorem q517 : (Jvm.Cond.castable "TitheBarn$Wrong" "TitheBarn$Wrong") ∈ lw_tbl := lw_at lw_m2 173 rfl
theorem q522 : (Jvm.Cond.selects "TitheBarn$Wrong" ({ cls := "java/lang/Throwable", name := "fillInStackTrace", desc := "(I)Ljava/lang/Throwable;" } : Jvm.MethodName) ({ cls := "java/lang/Throwable", name := "fillInStackTrace", desc := "(I)Ljava/lang/Throwable;" } : Jvm.MethodName)) ∈ lw_all := lw_g (lw_at lw_m2 178 rfl) rfl
theorem q523 : (Jvm.Cond.selects "TitheBarn$Wrong" ({ cls := "java/lang/Throwable", name := "fillInStackTrace", desc := "()Ljava/lang/Throwable;" } : Jvm.MethodName) ({ cls := "java/lang/Throwable", name := "fillInStackTrace", desc := "()Ljava/lang/Throwable;" } : Jvm.MethodName)) ∈ lw_all := lw_g (lw_at lw_m2 179 rfl) rfl
theorem q524 : (Jvm.Cond.lays "TitheBarn$Wrong" "java/lang/Throwable" "cause" "Ljava/lang/Throwable;") ∈ lw_all := lw_g (lw_at lw_m2 180 rfl) rfl
theorem q526 : (Jvm.Cond.lays "TitheBarn$Wrong" "java/lang/Throwable" "stackTrace" "[Ljava/lang/StackTraceElement;") ∈ lw_all := lw_g (lw_at lw_m2 182 rfl) rfl
theorem q528 : (Jvm.Cond.lays "TitheBarn$Wrong" "java/lang/Throwable" "suppressedExceptions" "Ljava/util/List;") ∈ lw_all := lw_g (lw_at lw_m2 184 rfl) rfl
theorem q530 : (Jvm.Cond.lays "TitheBarn$Wrong" "java/lang/Throwable" "detailMessage" "Ljava/lang/String;") ∈ lw_all := lw_g (lw_at lw_m2 186 rfl) rfl
theorem q532 : (Jvm.Cond.lays "TitheBarn$Wrong" "java/lang/Throwable" "backtrace" "Ljava/lang/Object;") ∈ lw_all := lw_g (lw_at lw_m2 188 rfl) rfl
theorem q556 : (Jvm.Cond.instanceMethod ({ cls := "TitheBarn$Wrong", name := "<init>", desc := "(I)V" } : Jvm.MethodName)) ∈ lw_all := lw_g (lw_at lw_m2 212 rfl) rfl
theorem q557 : (Jvm.Cond.code ({ cls := "TitheBarn$Wrong", name := "<init>", desc := "(I)V" } : Jvm.MethodName) prog_20_method_1_code (2 : Nat) (Option.none : Option Jvm.ClassFile.FieldType)) ∈ lw_all := lw_g (lw_at lw_m2 213 rfl) rfl
theorem q558 : (Jvm.Cond.methodLink "TitheBarn$Wrong" (1 : Nat) ({ cls := "java/lang/Exception", name := "<init>", desc := "(Ljava/lang/String;Ljava/lang/Throwable;ZZ)V" } : Jvm.MethodName)) ∈ lw_all := lw_g (lw_at lw_m2 214 rfl) rfl
theorem q564 : (Jvm.Cond.fieldLink "TitheBarn$Wrong" (7 : Nat) "TitheBarn$Wrong" "code" "I") ∈ lw_all := lw_g (lw_at lw_m2 220 rfl) rfl
theorem q571 : (Jvm.Cond.laysFinal "TitheBarn$Wrong" "TitheBarn$Wrong" "code" "I") ∈ lw_all := lw_g (lw_at lw_m2 227 rfl) rfl
theorem q572 : (Jvm.Cond.soleField "TitheBarn$Wrong" "code") ∈ lw_all := lw_g (lw_at lw_m2 228 rfl) rfl
theorem q577 : (Jvm.Cond.lays "TitheBarn$Wrong" "java/lang/Throwable" "depth" "I") ∈ lw_all := lw_g (lw_at lw_m2 233 rfl) rfl
theorem q580 : (Jvm.Cond.superclass "TitheBarn$Wrong" "java/lang/Exception") ∈ lw_all := lw_g (lw_at lw_m2 236 rfl) rfl
theorem q1177 : (Jvm.Cond.selects "TitheBarn$Wrong" ({ cls := "java/lang/Throwable", name := "getCause", desc := "()Ljava/lang/Throwable;" } : Jvm.MethodName) ({ cls := "java/lang/Throwable", name := "getCause", desc := "()Ljava/lang/Throwable;" } : Jvm.MethodName)) ∈ lw_all := lw_g (lw_at lw_m5 113 rfl) rfl
theorem q1935 : (Jvm.Cond.castable "TitheBarn$Wrong" "java/lang/Object") ∈ lw_tbl := lw_at lw_m8 151 rfl
theorem in_X9 : ∀ w ∈ wsX90, w ∈ lw_all := lw_in wsX90 [524, 526, 528, 530, 532, 577, 571] (by decide +kernel) (by decide +kernel)
/-! TitheBarn$Refused -/
def RX10 : String := "TitheBarn$Refused"
def TX10 : u_T := fun k => match k with
  | 0 => ("java/lang/Throwable", "cause", "Ljava/lang/Throwable;", false)
  | 1 => ("java/lang/Throwable", "stackTrace", "[Ljava/lang/StackTraceElement;", false)
  | 2 => ("java/lang/Throwable", "suppressedExceptions", "Ljava/util/List;", false)
  | 3 => ("java/lang/Throwable", "detailMessage", "Ljava/lang/String;", false)
  | 4 => ("java/lang/Throwable", "backtrace", "Ljava/lang/Object;", false)
  | 5 => ("java/lang/Throwable", "depth", "I", false)
  | 6 => ("TitheBarn$Refused", "reason", "I", true)
  | _ => ("TitheBarn$Refused", "detail", "I", true)
def tyX10 : Nat → FieldType := fun k => match k with
  | 0 => .object "java/lang/Throwable"
  | 1 => .array (.object "java/lang/StackTraceElement")
  | 2 => .object "java/util/List"
  | 3 => .object "java/lang/String"
  | 4 => .object "java/lang/Object"
  | 5 => .int
  | 6 => .int
  | _ => .int
abbrev wsX100 : List Cond := u_ws RX10 TX10 8
theorem nmX10 : ∀ a, a < 8 → ∀ b, b < 8 → a ≠ b → (TX10 a).2.1 ≠ (TX10 b).2.1 := by decide +kernel
theorem tyX10_ok : ∀ k, k < 8 → parseFieldDescriptor (TX10 k).2.2.1 = some (tyX10 k) := by decide +kernel
abbrev cX10_init : ByteArray := prog_16_method_1_code
def yX10_init : MethodName := ⟨RX10, "<init>", "(II)V"⟩
abbrev cX10_init_2 : ByteArray := prog_16_method_2_code
def yX10_init_2 : MethodName := ⟨RX10, "<init>", "(IILTitheBarn$Refused;)V"⟩
abbrev cX10_behind : ByteArray := prog_16_method_3_code
def yX10_behind : MethodName := ⟨RX10, "behind", "(I)LTitheBarn$Refused;"⟩
theorem q127 : (Jvm.Cond.initialized "TitheBarn$Refused") ∈ lw_all := lw_g (lw_at lw_m1 23 rfl) rfl
theorem q547 : (Jvm.Cond.selects "TitheBarn$Refused" ({ cls := "java/lang/Throwable", name := "fillInStackTrace", desc := "()Ljava/lang/Throwable;" } : Jvm.MethodName) ({ cls := "java/lang/Throwable", name := "fillInStackTrace", desc := "()Ljava/lang/Throwable;" } : Jvm.MethodName)) ∈ lw_all := lw_g (lw_at lw_m2 203 rfl) rfl
theorem q584 : (Jvm.Cond.instantiable "TitheBarn$Refused" (8 : Nat)) ∈ lw_all := lw_g (lw_at lw_m3 0 rfl) rfl
theorem q585 : (Jvm.Cond.castable "TitheBarn$Refused" "TitheBarn$Refused") ∈ lw_tbl := lw_at lw_m3 1 rfl
theorem q586 : (Jvm.Cond.selects "TitheBarn$Refused" ({ cls := "java/lang/Throwable", name := "fillInStackTrace", desc := "(I)Ljava/lang/Throwable;" } : Jvm.MethodName) ({ cls := "java/lang/Throwable", name := "fillInStackTrace", desc := "(I)Ljava/lang/Throwable;" } : Jvm.MethodName)) ∈ lw_all := lw_g (lw_at lw_m3 2 rfl) rfl
theorem q587 : (Jvm.Cond.lays "TitheBarn$Refused" "java/lang/Throwable" "cause" "Ljava/lang/Throwable;") ∈ lw_all := lw_g (lw_at lw_m3 3 rfl) rfl
theorem q588 : (Jvm.Cond.lays "TitheBarn$Refused" "java/lang/Throwable" "stackTrace" "[Ljava/lang/StackTraceElement;") ∈ lw_all := lw_g (lw_at lw_m3 4 rfl) rfl
theorem q589 : (Jvm.Cond.lays "TitheBarn$Refused" "java/lang/Throwable" "suppressedExceptions" "Ljava/util/List;") ∈ lw_all := lw_g (lw_at lw_m3 5 rfl) rfl
theorem q590 : (Jvm.Cond.lays "TitheBarn$Refused" "java/lang/Throwable" "detailMessage" "Ljava/lang/String;") ∈ lw_all := lw_g (lw_at lw_m3 6 rfl) rfl
theorem q591 : (Jvm.Cond.lays "TitheBarn$Refused" "java/lang/Throwable" "backtrace" "Ljava/lang/Object;") ∈ lw_all := lw_g (lw_at lw_m3 7 rfl) rfl
theorem q593 : (Jvm.Cond.instanceMethod ({ cls := "TitheBarn$Refused", name := "<init>", desc := "(II)V" } : Jvm.MethodName)) ∈ lw_all := lw_g (lw_at lw_m3 9 rfl) rfl
theorem q594 : (Jvm.Cond.code ({ cls := "TitheBarn$Refused", name := "<init>", desc := "(II)V" } : Jvm.MethodName) prog_16_method_1_code (3 : Nat) (Option.none : Option Jvm.ClassFile.FieldType)) ∈ lw_all := lw_g (lw_at lw_m3 10 rfl) rfl
theorem q595 : (Jvm.Cond.methodLink "TitheBarn$Refused" (1 : Nat) ({ cls := "TitheBarn$Refused", name := "<init>", desc := "(IILTitheBarn$Refused;)V" } : Jvm.MethodName)) ∈ lw_all := lw_g (lw_at lw_m3 11 rfl) rfl
theorem q596 : (Jvm.Cond.instanceMethod ({ cls := "TitheBarn$Refused", name := "<init>", desc := "(IILTitheBarn$Refused;)V" } : Jvm.MethodName)) ∈ lw_all := lw_g (lw_at lw_m3 12 rfl) rfl
theorem q597 : (Jvm.Cond.code ({ cls := "TitheBarn$Refused", name := "<init>", desc := "(IILTitheBarn$Refused;)V" } : Jvm.MethodName) prog_16_method_2_code (4 : Nat) (Option.none : Option Jvm.ClassFile.FieldType)) ∈ lw_all := lw_g (lw_at lw_m3 13 rfl) rfl
theorem q598 : (Jvm.Cond.methodLink "TitheBarn$Refused" (7 : Nat) ({ cls := "java/lang/Exception", name := "<init>", desc := "(Ljava/lang/String;Ljava/lang/Throwable;ZZ)V" } : Jvm.MethodName)) ∈ lw_all := lw_g (lw_at lw_m3 14 rfl) rfl
theorem q599 : (Jvm.Cond.fieldLink "TitheBarn$Refused" (12 : Nat) "TitheBarn$Refused" "reason" "I") ∈ lw_all := lw_g (lw_at lw_m3 15 rfl) rfl
theorem q601 : (Jvm.Cond.fieldLink "TitheBarn$Refused" (16 : Nat) "TitheBarn$Refused" "detail" "I") ∈ lw_all := lw_g (lw_at lw_m3 17 rfl) rfl
theorem q603 : (Jvm.Cond.laysFinal "TitheBarn$Refused" "TitheBarn$Refused" "reason" "I") ∈ lw_all := lw_g (lw_at lw_m3 19 rfl) rfl
theorem q604 : (Jvm.Cond.soleField "TitheBarn$Refused" "reason") ∈ lw_all := lw_g (lw_at lw_m3 20 rfl) rfl
theorem q605 : (Jvm.Cond.laysFinal "TitheBarn$Refused" "TitheBarn$Refused" "detail" "I") ∈ lw_all := lw_g (lw_at lw_m3 21 rfl) rfl
theorem q606 : (Jvm.Cond.soleField "TitheBarn$Refused" "detail") ∈ lw_all := lw_g (lw_at lw_m3 22 rfl) rfl
theorem q607 : (Jvm.Cond.lays "TitheBarn$Refused" "java/lang/Throwable" "depth" "I") ∈ lw_all := lw_g (lw_at lw_m3 23 rfl) rfl
theorem q608 : (Jvm.Cond.superclass "TitheBarn$Refused" "java/lang/Exception") ∈ lw_all := lw_g (lw_at lw_m3 24 rfl) rfl
theorem q1169 : (Jvm.Cond.instanceMethod ({ cls := "TitheBarn$Refused", name := "behind", desc := "(I)LTitheBarn$Refused;" } : Jvm.MethodName)) ∈ lw_all := lw_g (lw_at lw_m5 105 rfl) rfl
theorem q1170 : (Jvm.Cond.selects "TitheBarn$Refused" ({ cls := "TitheBarn$Refused", name := "behind", desc := "(I)LTitheBarn$Refused;" } : Jvm.MethodName) ({ cls := "TitheBarn$Refused", name := "behind", desc := "(I)LTitheBarn$Refused;" } : Jvm.MethodName)) ∈ lw_all := lw_g (lw_at lw_m5 106 rfl) rfl
theorem q1171 : (Jvm.Cond.code ({ cls := "TitheBarn$Refused", name := "behind", desc := "(I)LTitheBarn$Refused;" } : Jvm.MethodName) prog_16_method_3_code (4 : Nat) (Option.some (Jvm.ClassFile.FieldType.object "TitheBarn$Refused"))) ∈ lw_all := lw_g (lw_at lw_m5 107 rfl) rfl
theorem q1172 : (Jvm.Cond.methodLink "TitheBarn$Refused" (19 : Nat) ({ cls := "java/lang/Throwable", name := "getCause", desc := "()Ljava/lang/Throwable;" } : Jvm.MethodName)) ∈ lw_all := lw_g (lw_at lw_m5 108 rfl) rfl
theorem q1176 : (Jvm.Cond.selects "TitheBarn$Refused" ({ cls := "java/lang/Throwable", name := "getCause", desc := "()Ljava/lang/Throwable;" } : Jvm.MethodName) ({ cls := "java/lang/Throwable", name := "getCause", desc := "()Ljava/lang/Throwable;" } : Jvm.MethodName)) ∈ lw_all := lw_g (lw_at lw_m5 112 rfl) rfl
theorem q1180 : (Jvm.Cond.classLink "TitheBarn$Refused" (2 : Nat) "TitheBarn$Refused") ∈ lw_all := lw_g (lw_at lw_m5 116 rfl) rfl
theorem q1936 : (Jvm.Cond.castable "TitheBarn$Refused" "java/lang/Object") ∈ lw_tbl := lw_at lw_m8 152 rfl
theorem in_X10 : ∀ w ∈ wsX100, w ∈ lw_all := lw_in wsX100 [587, 588, 589, 590, 591, 607, 603, 605] (by decide +kernel) (by decide +kernel)
/-! TitheBarn$Fault -/
def RX11 : String := "TitheBarn$Fault"
def TX11 : u_T := fun k => match k with
  | 0 => ("java/lang/Throwable", "cause", "Ljava/lang/Throwable;", false)
  | 1 => ("java/lang/Throwable", "stackTrace", "[Ljava/lang/StackTraceElement;", false)
  | 2 => ("java/lang/Throwable", "suppressedExceptions", "Ljava/util/List;", false)
  | 3 => ("java/lang/Throwable", "detailMessage", "Ljava/lang/String;", false)
  | 4 => ("java/lang/Throwable", "backtrace", "Ljava/lang/Object;", false)
  | _ => ("java/lang/Throwable", "depth", "I", false)
def tyX11 : Nat → FieldType := fun k => match k with
  | 0 => .object "java/lang/Throwable"
  | 1 => .array (.object "java/lang/StackTraceElement")
  | 2 => .object "java/util/List"
  | 3 => .object "java/lang/String"
  | 4 => .object "java/lang/Object"
  | _ => .int
abbrev wsX110 : List Cond := u_ws RX11 TX11 6
theorem nmX11 : ∀ a, a < 6 → ∀ b, b < 6 → a ≠ b → (TX11 a).2.1 ≠ (TX11 b).2.1 := by decide +kernel
theorem tyX11_ok : ∀ k, k < 6 → parseFieldDescriptor (TX11 k).2.2.1 = some (tyX11 k) := by decide +kernel
abbrev cX11_init : ByteArray := prog_10_method_1_code
def yX11_init : MethodName := ⟨RX11, "<init>", "()V"⟩
theorem q128 : (Jvm.Cond.initialized "TitheBarn$Fault") ∈ lw_all := lw_g (lw_at lw_m1 24 rfl) rfl
theorem q546 : (Jvm.Cond.selects "TitheBarn$Fault" ({ cls := "java/lang/Throwable", name := "fillInStackTrace", desc := "()Ljava/lang/Throwable;" } : Jvm.MethodName) ({ cls := "java/lang/Throwable", name := "fillInStackTrace", desc := "()Ljava/lang/Throwable;" } : Jvm.MethodName)) ∈ lw_all := lw_g (lw_at lw_m2 202 rfl) rfl
theorem q935 : (Jvm.Cond.instantiable "TitheBarn$Fault" (6 : Nat)) ∈ lw_all := lw_g (lw_at lw_m4 111 rfl) rfl
theorem q936 : (Jvm.Cond.castable "TitheBarn$Fault" "TitheBarn$Fault") ∈ lw_tbl := lw_at lw_m4 112 rfl
theorem q937 : (Jvm.Cond.selects "TitheBarn$Fault" ({ cls := "java/lang/Throwable", name := "fillInStackTrace", desc := "(I)Ljava/lang/Throwable;" } : Jvm.MethodName) ({ cls := "java/lang/Throwable", name := "fillInStackTrace", desc := "(I)Ljava/lang/Throwable;" } : Jvm.MethodName)) ∈ lw_all := lw_g (lw_at lw_m4 113 rfl) rfl
theorem q938 : (Jvm.Cond.lays "TitheBarn$Fault" "java/lang/Throwable" "cause" "Ljava/lang/Throwable;") ∈ lw_all := lw_g (lw_at lw_m4 114 rfl) rfl
theorem q939 : (Jvm.Cond.lays "TitheBarn$Fault" "java/lang/Throwable" "stackTrace" "[Ljava/lang/StackTraceElement;") ∈ lw_all := lw_g (lw_at lw_m4 115 rfl) rfl
theorem q940 : (Jvm.Cond.lays "TitheBarn$Fault" "java/lang/Throwable" "suppressedExceptions" "Ljava/util/List;") ∈ lw_all := lw_g (lw_at lw_m4 116 rfl) rfl
theorem q941 : (Jvm.Cond.lays "TitheBarn$Fault" "java/lang/Throwable" "detailMessage" "Ljava/lang/String;") ∈ lw_all := lw_g (lw_at lw_m4 117 rfl) rfl
theorem q942 : (Jvm.Cond.lays "TitheBarn$Fault" "java/lang/Throwable" "backtrace" "Ljava/lang/Object;") ∈ lw_all := lw_g (lw_at lw_m4 118 rfl) rfl
theorem q944 : (Jvm.Cond.instanceMethod ({ cls := "TitheBarn$Fault", name := "<init>", desc := "()V" } : Jvm.MethodName)) ∈ lw_all := lw_g (lw_at lw_m4 120 rfl) rfl
theorem q945 : (Jvm.Cond.code ({ cls := "TitheBarn$Fault", name := "<init>", desc := "()V" } : Jvm.MethodName) prog_10_method_1_code (1 : Nat) (Option.none : Option Jvm.ClassFile.FieldType)) ∈ lw_all := lw_g (lw_at lw_m4 121 rfl) rfl
theorem q946 : (Jvm.Cond.methodLink "TitheBarn$Fault" (1 : Nat) ({ cls := "java/lang/Exception", name := "<init>", desc := "(Ljava/lang/String;Ljava/lang/Throwable;ZZ)V" } : Jvm.MethodName)) ∈ lw_all := lw_g (lw_at lw_m4 122 rfl) rfl
theorem q947 : (Jvm.Cond.lays "TitheBarn$Fault" "java/lang/Throwable" "depth" "I") ∈ lw_all := lw_g (lw_at lw_m4 123 rfl) rfl
theorem q948 : (Jvm.Cond.superclass "TitheBarn$Fault" "java/lang/Exception") ∈ lw_all := lw_g (lw_at lw_m4 124 rfl) rfl
theorem q1175 : (Jvm.Cond.selects "TitheBarn$Fault" ({ cls := "java/lang/Throwable", name := "getCause", desc := "()Ljava/lang/Throwable;" } : Jvm.MethodName) ({ cls := "java/lang/Throwable", name := "getCause", desc := "()Ljava/lang/Throwable;" } : Jvm.MethodName)) ∈ lw_all := lw_g (lw_at lw_m5 111 rfl) rfl
theorem q1937 : (Jvm.Cond.castable "TitheBarn$Fault" "java/lang/Object") ∈ lw_tbl := lw_at lw_m8 153 rfl
theorem in_X11 : ∀ w ∈ wsX110, w ∈ lw_all := lw_in wsX110 [938, 939, 940, 941, 942, 947] (by decide +kernel) (by decide +kernel)
/-! TitheBarn$Command -/
def RX12 : String := "TitheBarn$Command"
abbrev cX12_init : ByteArray := prog_9_method_1_code
def yX12_init : MethodName := ⟨RX12, "<init>", "(LTitheBarn;[I)V"⟩
theorem q129 : (Jvm.Cond.initialized "TitheBarn$Command") ∈ lw_all := lw_g (lw_at lw_m1 25 rfl) rfl
theorem q963 : (Jvm.Cond.instanceMethod ({ cls := "TitheBarn$Command", name := "<init>", desc := "(LTitheBarn;[I)V" } : Jvm.MethodName)) ∈ lw_all := lw_g (lw_at lw_m4 139 rfl) rfl
theorem q964 : (Jvm.Cond.code ({ cls := "TitheBarn$Command", name := "<init>", desc := "(LTitheBarn;[I)V" } : Jvm.MethodName) prog_9_method_1_code (3 : Nat) (Option.none : Option Jvm.ClassFile.FieldType)) ∈ lw_all := lw_g (lw_at lw_m4 140 rfl) rfl
theorem q965 : (Jvm.Cond.methodLink "TitheBarn$Command" (7 : Nat) ({ cls := "java/lang/Object", name := "<init>", desc := "()V" } : Jvm.MethodName)) ∈ lw_all := lw_g (lw_at lw_m4 141 rfl) rfl
theorem q967 : (Jvm.Cond.fieldLink "TitheBarn$Command" (13 : Nat) "TitheBarn$Command" "one" "I") ∈ lw_all := lw_g (lw_at lw_m4 143 rfl) rfl
theorem q982 : (Jvm.Cond.fieldLink "TitheBarn$Command" (17 : Nat) "TitheBarn$Command" "other" "I") ∈ lw_all := lw_g (lw_at lw_m4 158 rfl) rfl
theorem q991 : (Jvm.Cond.fieldLink "TitheBarn$Command" (20 : Nat) "TitheBarn$Command" "third" "I") ∈ lw_all := lw_g (lw_at lw_m4 167 rfl) rfl
theorem q998 : (Jvm.Cond.fieldLink "TitheBarn$Command" (1 : Nat) "TitheBarn$Command" "this$0" "LTitheBarn;") ∈ lw_all := lw_g (lw_at lw_m4 174 rfl) rfl
theorem q1002 : (Jvm.Cond.soleField "TitheBarn$Command" "one") ∈ lw_all := lw_g (lw_at lw_m4 178 rfl) rfl
theorem q1004 : (Jvm.Cond.soleField "TitheBarn$Command" "other") ∈ lw_all := lw_g (lw_at lw_m4 180 rfl) rfl
theorem q1006 : (Jvm.Cond.soleField "TitheBarn$Command" "third") ∈ lw_all := lw_g (lw_at lw_m4 182 rfl) rfl
theorem q1008 : (Jvm.Cond.soleField "TitheBarn$Command" "this$0") ∈ lw_all := lw_g (lw_at lw_m4 184 rfl) rfl
theorem q1134 : (Jvm.Cond.declares ({ cls := "TitheBarn$Command", name := "done", desc := "()I" } : Jvm.MethodName)) ∈ lw_tbl := lw_at lw_m5 70 rfl
theorem q1135 : (Jvm.Cond.sameMethod "TitheBarn$Command" "TitheBarn$Command" "done" "()I") ∈ lw_all := lw_g (lw_at lw_m5 71 rfl) rfl
/-! TitheBarn$Harvest -/
def RX13 : String := "TitheBarn$Harvest"
def TX13 : u_T := fun k => match k with
  | 0 => ("TitheBarn$Command", "one", "I", true)
  | 1 => ("TitheBarn$Command", "other", "I", true)
  | 2 => ("TitheBarn$Command", "third", "I", true)
  | 3 => ("TitheBarn$Command", "this$0", "LTitheBarn;", true)
  | _ => ("TitheBarn$Harvest", "this$0", "LTitheBarn;", true)
def tyX13 : Nat → FieldType := fun k => match k with
  | 0 => .int
  | 1 => .int
  | 2 => .int
  | 3 => .object "TitheBarn"
  | _ => .object "TitheBarn"
abbrev wsX130 : List Cond := u_ws RX13 TX13 5
-- two fields of one name: no nmX13
theorem tyX13_ok : ∀ k, k < 5 → parseFieldDescriptor (TX13 k).2.2.1 = some (tyX13 k) := by decide +kernel
abbrev cX13_init : ByteArray := prog_12_method_1_code
def yX13_init : MethodName := ⟨RX13, "<init>", "(LTitheBarn;II)V"⟩
abbrev cX13_done : ByteArray := prog_12_method_2_code
def yX13_done : MethodName := ⟨RX13, "done", "()I"⟩
theorem q130 : (Jvm.Cond.initialized "TitheBarn$Harvest") ∈ lw_all := lw_g (lw_at lw_m1 26 rfl) rfl
theorem q950 : (Jvm.Cond.instantiable "TitheBarn$Harvest" (5 : Nat)) ∈ lw_all := lw_g (lw_at lw_m4 126 rfl) rfl
theorem q960 : (Jvm.Cond.instanceMethod ({ cls := "TitheBarn$Harvest", name := "<init>", desc := "(LTitheBarn;II)V" } : Jvm.MethodName)) ∈ lw_all := lw_g (lw_at lw_m4 136 rfl) rfl
theorem q961 : (Jvm.Cond.code ({ cls := "TitheBarn$Harvest", name := "<init>", desc := "(LTitheBarn;II)V" } : Jvm.MethodName) prog_12_method_1_code (4 : Nat) (Option.none : Option Jvm.ClassFile.FieldType)) ∈ lw_all := lw_g (lw_at lw_m4 137 rfl) rfl
theorem q962 : (Jvm.Cond.methodLink "TitheBarn$Harvest" (7 : Nat) ({ cls := "TitheBarn$Command", name := "<init>", desc := "(LTitheBarn;[I)V" } : Jvm.MethodName)) ∈ lw_all := lw_g (lw_at lw_m4 138 rfl) rfl
theorem q966 : (Jvm.Cond.fieldLink "TitheBarn$Harvest" (1 : Nat) "TitheBarn$Harvest" "this$0" "LTitheBarn;") ∈ lw_all := lw_g (lw_at lw_m4 142 rfl) rfl
theorem q976 : (Jvm.Cond.fieldLink "TitheBarn$Harvest" (13 : Nat) "TitheBarn$Harvest" "one" "I") ∈ lw_all := lw_g (lw_at lw_m4 152 rfl) rfl
theorem q977 : (Jvm.Cond.sameField "TitheBarn$Harvest" "TitheBarn$Command" "one" "I") ∈ lw_all := lw_g (lw_at lw_m4 153 rfl) rfl
theorem q985 : (Jvm.Cond.fieldLink "TitheBarn$Harvest" (17 : Nat) "TitheBarn$Harvest" "other" "I") ∈ lw_all := lw_g (lw_at lw_m4 161 rfl) rfl
theorem q986 : (Jvm.Cond.sameField "TitheBarn$Harvest" "TitheBarn$Command" "other" "I") ∈ lw_all := lw_g (lw_at lw_m4 162 rfl) rfl
theorem q999 : (Jvm.Cond.laysFinal "TitheBarn$Harvest" "TitheBarn$Harvest" "this$0" "LTitheBarn;") ∈ lw_all := lw_g (lw_at lw_m4 175 rfl) rfl
theorem q1000 : (Jvm.Cond.soleField "TitheBarn$Harvest" "this$0") ∈ lw_all := lw_g (lw_at lw_m4 176 rfl) rfl
theorem q1001 : (Jvm.Cond.laysFinal "TitheBarn$Harvest" "TitheBarn$Command" "one" "I") ∈ lw_all := lw_g (lw_at lw_m4 177 rfl) rfl
theorem q1003 : (Jvm.Cond.laysFinal "TitheBarn$Harvest" "TitheBarn$Command" "other" "I") ∈ lw_all := lw_g (lw_at lw_m4 179 rfl) rfl
theorem q1005 : (Jvm.Cond.laysFinal "TitheBarn$Harvest" "TitheBarn$Command" "third" "I") ∈ lw_all := lw_g (lw_at lw_m4 181 rfl) rfl
theorem q1007 : (Jvm.Cond.laysFinal "TitheBarn$Harvest" "TitheBarn$Command" "this$0" "LTitheBarn;") ∈ lw_all := lw_g (lw_at lw_m4 183 rfl) rfl
theorem q1009 : (Jvm.Cond.superclass "TitheBarn$Harvest" "TitheBarn$Command") ∈ lw_all := lw_g (lw_at lw_m4 185 rfl) rfl
theorem q1152 : (Jvm.Cond.selects "TitheBarn$Harvest" ({ cls := "TitheBarn$Command", name := "done", desc := "()I" } : Jvm.MethodName) ({ cls := "TitheBarn$Harvest", name := "done", desc := "()I" } : Jvm.MethodName)) ∈ lw_all := lw_g (lw_at lw_m5 88 rfl) rfl
theorem q1153 : (Jvm.Cond.instanceMethod ({ cls := "TitheBarn$Harvest", name := "done", desc := "()I" } : Jvm.MethodName)) ∈ lw_all := lw_g (lw_at lw_m5 89 rfl) rfl
theorem q1154 : (Jvm.Cond.code ({ cls := "TitheBarn$Harvest", name := "done", desc := "()I" } : Jvm.MethodName) prog_12_method_2_code (1 : Nat) (Option.some Jvm.ClassFile.FieldType.int)) ∈ lw_all := lw_g (lw_at lw_m5 90 rfl) rfl
theorem q1155 : (Jvm.Cond.methodLinkNest "TitheBarn$Harvest" (20 : Nat) ({ cls := "TitheBarn", name := "doHarvest", desc := "(II)I" } : Jvm.MethodName) "TitheBarn") ∈ lw_tbl := lw_at lw_m5 91 rfl
theorem q1938 : (Jvm.Cond.castable "TitheBarn$Harvest" "java/lang/Object") ∈ lw_tbl := lw_at lw_m8 154 rfl
theorem q1948 : (Jvm.Cond.castable "TitheBarn$Harvest" "TitheBarn$Command") ∈ lw_tbl := lw_at lw_m8 164 rfl
theorem in_X13 : ∀ w ∈ wsX130, w ∈ lw_all := lw_in wsX130 [1001, 1003, 1005, 1007, 999] (by decide +kernel) (by decide +kernel)
/-! TitheBarn$Cart -/
def RX14 : String := "TitheBarn$Cart"
def TX14 : u_T := fun k => match k with
  | 0 => ("TitheBarn$Command", "one", "I", true)
  | 1 => ("TitheBarn$Command", "other", "I", true)
  | 2 => ("TitheBarn$Command", "third", "I", true)
  | 3 => ("TitheBarn$Command", "this$0", "LTitheBarn;", true)
  | _ => ("TitheBarn$Cart", "this$0", "LTitheBarn;", true)
def tyX14 : Nat → FieldType := fun k => match k with
  | 0 => .int
  | 1 => .int
  | 2 => .int
  | 3 => .object "TitheBarn"
  | _ => .object "TitheBarn"
abbrev wsX140 : List Cond := u_ws RX14 TX14 5
-- two fields of one name: no nmX14
theorem tyX14_ok : ∀ k, k < 5 → parseFieldDescriptor (TX14 k).2.2.1 = some (tyX14 k) := by decide +kernel
abbrev cX14_init : ByteArray := prog_8_method_1_code
def yX14_init : MethodName := ⟨RX14, "<init>", "(LTitheBarn;III)V"⟩
abbrev cX14_done : ByteArray := prog_8_method_2_code
def yX14_done : MethodName := ⟨RX14, "done", "()I"⟩
theorem q131 : (Jvm.Cond.initialized "TitheBarn$Cart") ∈ lw_all := lw_g (lw_at lw_m1 27 rfl) rfl
theorem q974 : (Jvm.Cond.fieldLink "TitheBarn$Cart" (13 : Nat) "TitheBarn$Cart" "one" "I") ∈ lw_all := lw_g (lw_at lw_m4 150 rfl) rfl
theorem q975 : (Jvm.Cond.sameField "TitheBarn$Cart" "TitheBarn$Command" "one" "I") ∈ lw_all := lw_g (lw_at lw_m4 151 rfl) rfl
theorem q983 : (Jvm.Cond.fieldLink "TitheBarn$Cart" (17 : Nat) "TitheBarn$Cart" "other" "I") ∈ lw_all := lw_g (lw_at lw_m4 159 rfl) rfl
theorem q984 : (Jvm.Cond.sameField "TitheBarn$Cart" "TitheBarn$Command" "other" "I") ∈ lw_all := lw_g (lw_at lw_m4 160 rfl) rfl
theorem q992 : (Jvm.Cond.fieldLink "TitheBarn$Cart" (20 : Nat) "TitheBarn$Cart" "third" "I") ∈ lw_all := lw_g (lw_at lw_m4 168 rfl) rfl
theorem q993 : (Jvm.Cond.sameField "TitheBarn$Cart" "TitheBarn$Command" "third" "I") ∈ lw_all := lw_g (lw_at lw_m4 169 rfl) rfl
theorem q1011 : (Jvm.Cond.instantiable "TitheBarn$Cart" (5 : Nat)) ∈ lw_all := lw_g (lw_at lw_m4 187 rfl) rfl
theorem q1017 : (Jvm.Cond.instanceMethod ({ cls := "TitheBarn$Cart", name := "<init>", desc := "(LTitheBarn;III)V" } : Jvm.MethodName)) ∈ lw_all := lw_g (lw_at lw_m4 193 rfl) rfl
theorem q1018 : (Jvm.Cond.code ({ cls := "TitheBarn$Cart", name := "<init>", desc := "(LTitheBarn;III)V" } : Jvm.MethodName) prog_8_method_1_code (5 : Nat) (Option.none : Option Jvm.ClassFile.FieldType)) ∈ lw_all := lw_g (lw_at lw_m4 194 rfl) rfl
theorem q1019 : (Jvm.Cond.methodLink "TitheBarn$Cart" (7 : Nat) ({ cls := "TitheBarn$Command", name := "<init>", desc := "(LTitheBarn;[I)V" } : Jvm.MethodName)) ∈ lw_all := lw_g (lw_at lw_m4 195 rfl) rfl
theorem q1020 : (Jvm.Cond.fieldLink "TitheBarn$Cart" (1 : Nat) "TitheBarn$Cart" "this$0" "LTitheBarn;") ∈ lw_all := lw_g (lw_at lw_m4 196 rfl) rfl
theorem q1021 : (Jvm.Cond.laysFinal "TitheBarn$Cart" "TitheBarn$Cart" "this$0" "LTitheBarn;") ∈ lw_all := lw_g (lw_at lw_m4 197 rfl) rfl
theorem q1022 : (Jvm.Cond.soleField "TitheBarn$Cart" "this$0") ∈ lw_all := lw_g (lw_at lw_m4 198 rfl) rfl
theorem q1023 : (Jvm.Cond.laysFinal "TitheBarn$Cart" "TitheBarn$Command" "one" "I") ∈ lw_all := lw_g (lw_at lw_m4 199 rfl) rfl
theorem q1024 : (Jvm.Cond.laysFinal "TitheBarn$Cart" "TitheBarn$Command" "other" "I") ∈ lw_all := lw_g (lw_at lw_m4 200 rfl) rfl
theorem q1025 : (Jvm.Cond.laysFinal "TitheBarn$Cart" "TitheBarn$Command" "third" "I") ∈ lw_all := lw_g (lw_at lw_m4 201 rfl) rfl
theorem q1026 : (Jvm.Cond.laysFinal "TitheBarn$Cart" "TitheBarn$Command" "this$0" "LTitheBarn;") ∈ lw_all := lw_g (lw_at lw_m4 202 rfl) rfl
theorem q1027 : (Jvm.Cond.superclass "TitheBarn$Cart" "TitheBarn$Command") ∈ lw_all := lw_g (lw_at lw_m4 203 rfl) rfl
theorem q1148 : (Jvm.Cond.selects "TitheBarn$Cart" ({ cls := "TitheBarn$Command", name := "done", desc := "()I" } : Jvm.MethodName) ({ cls := "TitheBarn$Cart", name := "done", desc := "()I" } : Jvm.MethodName)) ∈ lw_all := lw_g (lw_at lw_m5 84 rfl) rfl
theorem q1149 : (Jvm.Cond.instanceMethod ({ cls := "TitheBarn$Cart", name := "done", desc := "()I" } : Jvm.MethodName)) ∈ lw_all := lw_g (lw_at lw_m5 85 rfl) rfl
theorem q1150 : (Jvm.Cond.code ({ cls := "TitheBarn$Cart", name := "done", desc := "()I" } : Jvm.MethodName) prog_8_method_2_code (1 : Nat) (Option.some Jvm.ClassFile.FieldType.int)) ∈ lw_all := lw_g (lw_at lw_m5 86 rfl) rfl
theorem q1151 : (Jvm.Cond.methodLinkNest "TitheBarn$Cart" (23 : Nat) ({ cls := "TitheBarn", name := "doCart", desc := "(III)I" } : Jvm.MethodName) "TitheBarn") ∈ lw_tbl := lw_at lw_m5 87 rfl
theorem q1939 : (Jvm.Cond.castable "TitheBarn$Cart" "java/lang/Object") ∈ lw_tbl := lw_at lw_m8 155 rfl
theorem q1949 : (Jvm.Cond.castable "TitheBarn$Cart" "TitheBarn$Command") ∈ lw_tbl := lw_at lw_m8 165 rfl
theorem in_X14 : ∀ w ∈ wsX140, w ∈ lw_all := lw_in wsX140 [1023, 1024, 1025, 1026, 1021] (by decide +kernel) (by decide +kernel)
/-! TitheBarn$Thresh -/
def RX15 : String := "TitheBarn$Thresh"
def TX15 : u_T := fun k => match k with
  | 0 => ("TitheBarn$Command", "one", "I", true)
  | 1 => ("TitheBarn$Command", "other", "I", true)
  | 2 => ("TitheBarn$Command", "third", "I", true)
  | 3 => ("TitheBarn$Command", "this$0", "LTitheBarn;", true)
  | _ => ("TitheBarn$Thresh", "this$0", "LTitheBarn;", true)
def tyX15 : Nat → FieldType := fun k => match k with
  | 0 => .int
  | 1 => .int
  | 2 => .int
  | 3 => .object "TitheBarn"
  | _ => .object "TitheBarn"
abbrev wsX150 : List Cond := u_ws RX15 TX15 5
-- two fields of one name: no nmX15
theorem tyX15_ok : ∀ k, k < 5 → parseFieldDescriptor (TX15 k).2.2.1 = some (tyX15 k) := by decide +kernel
abbrev cX15_init : ByteArray := prog_19_method_1_code
def yX15_init : MethodName := ⟨RX15, "<init>", "(LTitheBarn;III)V"⟩
abbrev cX15_done : ByteArray := prog_19_method_2_code
def yX15_done : MethodName := ⟨RX15, "done", "()I"⟩
theorem q132 : (Jvm.Cond.initialized "TitheBarn$Thresh") ∈ lw_all := lw_g (lw_at lw_m1 28 rfl) rfl
theorem q980 : (Jvm.Cond.fieldLink "TitheBarn$Thresh" (13 : Nat) "TitheBarn$Thresh" "one" "I") ∈ lw_all := lw_g (lw_at lw_m4 156 rfl) rfl
theorem q981 : (Jvm.Cond.sameField "TitheBarn$Thresh" "TitheBarn$Command" "one" "I") ∈ lw_all := lw_g (lw_at lw_m4 157 rfl) rfl
theorem q989 : (Jvm.Cond.fieldLink "TitheBarn$Thresh" (17 : Nat) "TitheBarn$Thresh" "other" "I") ∈ lw_all := lw_g (lw_at lw_m4 165 rfl) rfl
theorem q990 : (Jvm.Cond.sameField "TitheBarn$Thresh" "TitheBarn$Command" "other" "I") ∈ lw_all := lw_g (lw_at lw_m4 166 rfl) rfl
theorem q996 : (Jvm.Cond.fieldLink "TitheBarn$Thresh" (20 : Nat) "TitheBarn$Thresh" "third" "I") ∈ lw_all := lw_g (lw_at lw_m4 172 rfl) rfl
theorem q997 : (Jvm.Cond.sameField "TitheBarn$Thresh" "TitheBarn$Command" "third" "I") ∈ lw_all := lw_g (lw_at lw_m4 173 rfl) rfl
theorem q1029 : (Jvm.Cond.instantiable "TitheBarn$Thresh" (5 : Nat)) ∈ lw_all := lw_g (lw_at lw_m4 205 rfl) rfl
theorem q1031 : (Jvm.Cond.instanceMethod ({ cls := "TitheBarn$Thresh", name := "<init>", desc := "(LTitheBarn;III)V" } : Jvm.MethodName)) ∈ lw_all := lw_g (lw_at lw_m4 207 rfl) rfl
theorem q1032 : (Jvm.Cond.code ({ cls := "TitheBarn$Thresh", name := "<init>", desc := "(LTitheBarn;III)V" } : Jvm.MethodName) prog_19_method_1_code (5 : Nat) (Option.none : Option Jvm.ClassFile.FieldType)) ∈ lw_all := lw_g (lw_at lw_m4 208 rfl) rfl
theorem q1033 : (Jvm.Cond.methodLink "TitheBarn$Thresh" (7 : Nat) ({ cls := "TitheBarn$Command", name := "<init>", desc := "(LTitheBarn;[I)V" } : Jvm.MethodName)) ∈ lw_all := lw_g (lw_at lw_m4 209 rfl) rfl
theorem q1034 : (Jvm.Cond.fieldLink "TitheBarn$Thresh" (1 : Nat) "TitheBarn$Thresh" "this$0" "LTitheBarn;") ∈ lw_all := lw_g (lw_at lw_m4 210 rfl) rfl
theorem q1035 : (Jvm.Cond.laysFinal "TitheBarn$Thresh" "TitheBarn$Thresh" "this$0" "LTitheBarn;") ∈ lw_all := lw_g (lw_at lw_m4 211 rfl) rfl
theorem q1036 : (Jvm.Cond.soleField "TitheBarn$Thresh" "this$0") ∈ lw_all := lw_g (lw_at lw_m4 212 rfl) rfl
theorem q1037 : (Jvm.Cond.laysFinal "TitheBarn$Thresh" "TitheBarn$Command" "one" "I") ∈ lw_all := lw_g (lw_at lw_m4 213 rfl) rfl
theorem q1038 : (Jvm.Cond.laysFinal "TitheBarn$Thresh" "TitheBarn$Command" "other" "I") ∈ lw_all := lw_g (lw_at lw_m4 214 rfl) rfl
theorem q1039 : (Jvm.Cond.laysFinal "TitheBarn$Thresh" "TitheBarn$Command" "third" "I") ∈ lw_all := lw_g (lw_at lw_m4 215 rfl) rfl
theorem q1040 : (Jvm.Cond.laysFinal "TitheBarn$Thresh" "TitheBarn$Command" "this$0" "LTitheBarn;") ∈ lw_all := lw_g (lw_at lw_m4 216 rfl) rfl
theorem q1041 : (Jvm.Cond.superclass "TitheBarn$Thresh" "TitheBarn$Command") ∈ lw_all := lw_g (lw_at lw_m4 217 rfl) rfl
theorem q1160 : (Jvm.Cond.selects "TitheBarn$Thresh" ({ cls := "TitheBarn$Command", name := "done", desc := "()I" } : Jvm.MethodName) ({ cls := "TitheBarn$Thresh", name := "done", desc := "()I" } : Jvm.MethodName)) ∈ lw_all := lw_g (lw_at lw_m5 96 rfl) rfl
theorem q1161 : (Jvm.Cond.instanceMethod ({ cls := "TitheBarn$Thresh", name := "done", desc := "()I" } : Jvm.MethodName)) ∈ lw_all := lw_g (lw_at lw_m5 97 rfl) rfl
theorem q1162 : (Jvm.Cond.code ({ cls := "TitheBarn$Thresh", name := "done", desc := "()I" } : Jvm.MethodName) prog_19_method_2_code (1 : Nat) (Option.some Jvm.ClassFile.FieldType.int)) ∈ lw_all := lw_g (lw_at lw_m5 98 rfl) rfl
theorem q1163 : (Jvm.Cond.methodLinkNest "TitheBarn$Thresh" (23 : Nat) ({ cls := "TitheBarn", name := "doThresh", desc := "(III)I" } : Jvm.MethodName) "TitheBarn") ∈ lw_tbl := lw_at lw_m5 99 rfl
theorem q1940 : (Jvm.Cond.castable "TitheBarn$Thresh" "java/lang/Object") ∈ lw_tbl := lw_at lw_m8 156 rfl
theorem q1950 : (Jvm.Cond.castable "TitheBarn$Thresh" "TitheBarn$Command") ∈ lw_tbl := lw_at lw_m8 166 rfl
theorem in_X15 : ∀ w ∈ wsX150, w ∈ lw_all := lw_in wsX150 [1037, 1038, 1039, 1040, 1035] (by decide +kernel) (by decide +kernel)
/-! TitheBarn$Sale -/
def RX16 : String := "TitheBarn$Sale"
def TX16 : u_T := fun k => match k with
  | 0 => ("TitheBarn$Command", "one", "I", true)
  | 1 => ("TitheBarn$Command", "other", "I", true)
  | 2 => ("TitheBarn$Command", "third", "I", true)
  | 3 => ("TitheBarn$Command", "this$0", "LTitheBarn;", true)
  | _ => ("TitheBarn$Sale", "this$0", "LTitheBarn;", true)
def tyX16 : Nat → FieldType := fun k => match k with
  | 0 => .int
  | 1 => .int
  | 2 => .int
  | 3 => .object "TitheBarn"
  | _ => .object "TitheBarn"
abbrev wsX160 : List Cond := u_ws RX16 TX16 5
-- two fields of one name: no nmX16
theorem tyX16_ok : ∀ k, k < 5 → parseFieldDescriptor (TX16 k).2.2.1 = some (tyX16 k) := by decide +kernel
abbrev cX16_init : ByteArray := prog_17_method_1_code
def yX16_init : MethodName := ⟨RX16, "<init>", "(LTitheBarn;III)V"⟩
abbrev cX16_done : ByteArray := prog_17_method_2_code
def yX16_done : MethodName := ⟨RX16, "done", "()I"⟩
theorem q133 : (Jvm.Cond.initialized "TitheBarn$Sale") ∈ lw_all := lw_g (lw_at lw_m1 29 rfl) rfl
theorem q978 : (Jvm.Cond.fieldLink "TitheBarn$Sale" (13 : Nat) "TitheBarn$Sale" "one" "I") ∈ lw_all := lw_g (lw_at lw_m4 154 rfl) rfl
theorem q979 : (Jvm.Cond.sameField "TitheBarn$Sale" "TitheBarn$Command" "one" "I") ∈ lw_all := lw_g (lw_at lw_m4 155 rfl) rfl
theorem q987 : (Jvm.Cond.fieldLink "TitheBarn$Sale" (17 : Nat) "TitheBarn$Sale" "other" "I") ∈ lw_all := lw_g (lw_at lw_m4 163 rfl) rfl
theorem q988 : (Jvm.Cond.sameField "TitheBarn$Sale" "TitheBarn$Command" "other" "I") ∈ lw_all := lw_g (lw_at lw_m4 164 rfl) rfl
theorem q994 : (Jvm.Cond.fieldLink "TitheBarn$Sale" (20 : Nat) "TitheBarn$Sale" "third" "I") ∈ lw_all := lw_g (lw_at lw_m4 170 rfl) rfl
theorem q995 : (Jvm.Cond.sameField "TitheBarn$Sale" "TitheBarn$Command" "third" "I") ∈ lw_all := lw_g (lw_at lw_m4 171 rfl) rfl
theorem q1050 : (Jvm.Cond.instantiable "TitheBarn$Sale" (5 : Nat)) ∈ lw_all := lw_g (lw_at lw_m4 226 rfl) rfl
theorem q1052 : (Jvm.Cond.instanceMethod ({ cls := "TitheBarn$Sale", name := "<init>", desc := "(LTitheBarn;III)V" } : Jvm.MethodName)) ∈ lw_all := lw_g (lw_at lw_m4 228 rfl) rfl
theorem q1053 : (Jvm.Cond.code ({ cls := "TitheBarn$Sale", name := "<init>", desc := "(LTitheBarn;III)V" } : Jvm.MethodName) prog_17_method_1_code (5 : Nat) (Option.none : Option Jvm.ClassFile.FieldType)) ∈ lw_all := lw_g (lw_at lw_m4 229 rfl) rfl
theorem q1054 : (Jvm.Cond.methodLink "TitheBarn$Sale" (7 : Nat) ({ cls := "TitheBarn$Command", name := "<init>", desc := "(LTitheBarn;[I)V" } : Jvm.MethodName)) ∈ lw_all := lw_g (lw_at lw_m4 230 rfl) rfl
theorem q1055 : (Jvm.Cond.fieldLink "TitheBarn$Sale" (1 : Nat) "TitheBarn$Sale" "this$0" "LTitheBarn;") ∈ lw_all := lw_g (lw_at lw_m4 231 rfl) rfl
theorem q1056 : (Jvm.Cond.laysFinal "TitheBarn$Sale" "TitheBarn$Sale" "this$0" "LTitheBarn;") ∈ lw_all := lw_g (lw_at lw_m4 232 rfl) rfl
theorem q1057 : (Jvm.Cond.soleField "TitheBarn$Sale" "this$0") ∈ lw_all := lw_g (lw_at lw_m4 233 rfl) rfl
theorem q1058 : (Jvm.Cond.laysFinal "TitheBarn$Sale" "TitheBarn$Command" "one" "I") ∈ lw_all := lw_g (lw_at lw_m4 234 rfl) rfl
theorem q1059 : (Jvm.Cond.laysFinal "TitheBarn$Sale" "TitheBarn$Command" "other" "I") ∈ lw_all := lw_g (lw_at lw_m4 235 rfl) rfl
theorem q1060 : (Jvm.Cond.laysFinal "TitheBarn$Sale" "TitheBarn$Command" "third" "I") ∈ lw_all := lw_g (lw_at lw_m4 236 rfl) rfl
theorem q1061 : (Jvm.Cond.laysFinal "TitheBarn$Sale" "TitheBarn$Command" "this$0" "LTitheBarn;") ∈ lw_all := lw_g (lw_at lw_m4 237 rfl) rfl
theorem q1062 : (Jvm.Cond.superclass "TitheBarn$Sale" "TitheBarn$Command") ∈ lw_all := lw_g (lw_at lw_m4 238 rfl) rfl
theorem q1156 : (Jvm.Cond.selects "TitheBarn$Sale" ({ cls := "TitheBarn$Command", name := "done", desc := "()I" } : Jvm.MethodName) ({ cls := "TitheBarn$Sale", name := "done", desc := "()I" } : Jvm.MethodName)) ∈ lw_all := lw_g (lw_at lw_m5 92 rfl) rfl
theorem q1157 : (Jvm.Cond.instanceMethod ({ cls := "TitheBarn$Sale", name := "done", desc := "()I" } : Jvm.MethodName)) ∈ lw_all := lw_g (lw_at lw_m5 93 rfl) rfl
theorem q1158 : (Jvm.Cond.code ({ cls := "TitheBarn$Sale", name := "done", desc := "()I" } : Jvm.MethodName) prog_17_method_2_code (1 : Nat) (Option.some Jvm.ClassFile.FieldType.int)) ∈ lw_all := lw_g (lw_at lw_m5 94 rfl) rfl
theorem q1159 : (Jvm.Cond.methodLinkNest "TitheBarn$Sale" (23 : Nat) ({ cls := "TitheBarn", name := "doSell", desc := "(III)I" } : Jvm.MethodName) "TitheBarn") ∈ lw_tbl := lw_at lw_m5 95 rfl
theorem q1941 : (Jvm.Cond.castable "TitheBarn$Sale" "java/lang/Object") ∈ lw_tbl := lw_at lw_m8 157 rfl
theorem q1951 : (Jvm.Cond.castable "TitheBarn$Sale" "TitheBarn$Command") ∈ lw_tbl := lw_at lw_m8 167 rfl
theorem in_X16 : ∀ w ∈ wsX160, w ∈ lw_all := lw_in wsX160 [1058, 1059, 1060, 1061, 1056] (by decide +kernel) (by decide +kernel)
/-! TitheBarn$1Pass -/
def RX17 : String := "TitheBarn$1Pass"
def TX17 : u_T := fun k => match k with
  | 0 => ("TitheBarn$Command", "one", "I", true)
  | 1 => ("TitheBarn$Command", "other", "I", true)
  | 2 => ("TitheBarn$Command", "third", "I", true)
  | 3 => ("TitheBarn$Command", "this$0", "LTitheBarn;", true)
  | _ => ("TitheBarn$1Pass", "this$0", "LTitheBarn;", true)
def tyX17 : Nat → FieldType := fun k => match k with
  | 0 => .int
  | 1 => .int
  | 2 => .int
  | 3 => .object "TitheBarn"
  | _ => .object "TitheBarn"
abbrev wsX170 : List Cond := u_ws RX17 TX17 5
-- two fields of one name: no nmX17
theorem tyX17_ok : ∀ k, k < 5 → parseFieldDescriptor (TX17 k).2.2.1 = some (tyX17 k) := by decide +kernel
abbrev cX17_init : ByteArray := prog_4_method_1_code
def yX17_init : MethodName := ⟨RX17, "<init>", "(LTitheBarn;I)V"⟩
abbrev cX17_done : ByteArray := prog_4_method_2_code
def yX17_done : MethodName := ⟨RX17, "done", "()I"⟩
theorem q134 : (Jvm.Cond.initialized "TitheBarn$1Pass") ∈ lw_all := lw_g (lw_at lw_m1 30 rfl) rfl
theorem q972 : (Jvm.Cond.fieldLink "TitheBarn$1Pass" (13 : Nat) "TitheBarn$1Pass" "one" "I") ∈ lw_all := lw_g (lw_at lw_m4 148 rfl) rfl
theorem q973 : (Jvm.Cond.sameField "TitheBarn$1Pass" "TitheBarn$Command" "one" "I") ∈ lw_all := lw_g (lw_at lw_m4 149 rfl) rfl
theorem q1068 : (Jvm.Cond.instantiable "TitheBarn$1Pass" (5 : Nat)) ∈ lw_all := lw_g (lw_at lw_m5 4 rfl) rfl
theorem q1070 : (Jvm.Cond.instanceMethod ({ cls := "TitheBarn$1Pass", name := "<init>", desc := "(LTitheBarn;I)V" } : Jvm.MethodName)) ∈ lw_all := lw_g (lw_at lw_m5 6 rfl) rfl
theorem q1071 : (Jvm.Cond.code ({ cls := "TitheBarn$1Pass", name := "<init>", desc := "(LTitheBarn;I)V" } : Jvm.MethodName) prog_4_method_1_code (3 : Nat) (Option.none : Option Jvm.ClassFile.FieldType)) ∈ lw_all := lw_g (lw_at lw_m5 7 rfl) rfl
theorem q1072 : (Jvm.Cond.methodLink "TitheBarn$1Pass" (7 : Nat) ({ cls := "TitheBarn$Command", name := "<init>", desc := "(LTitheBarn;[I)V" } : Jvm.MethodName)) ∈ lw_all := lw_g (lw_at lw_m5 8 rfl) rfl
theorem q1073 : (Jvm.Cond.fieldLink "TitheBarn$1Pass" (1 : Nat) "TitheBarn$1Pass" "this$0" "LTitheBarn;") ∈ lw_all := lw_g (lw_at lw_m5 9 rfl) rfl
theorem q1074 : (Jvm.Cond.laysFinal "TitheBarn$1Pass" "TitheBarn$1Pass" "this$0" "LTitheBarn;") ∈ lw_all := lw_g (lw_at lw_m5 10 rfl) rfl
theorem q1075 : (Jvm.Cond.soleField "TitheBarn$1Pass" "this$0") ∈ lw_all := lw_g (lw_at lw_m5 11 rfl) rfl
theorem q1076 : (Jvm.Cond.laysFinal "TitheBarn$1Pass" "TitheBarn$Command" "one" "I") ∈ lw_all := lw_g (lw_at lw_m5 12 rfl) rfl
theorem q1077 : (Jvm.Cond.laysFinal "TitheBarn$1Pass" "TitheBarn$Command" "other" "I") ∈ lw_all := lw_g (lw_at lw_m5 13 rfl) rfl
theorem q1078 : (Jvm.Cond.laysFinal "TitheBarn$1Pass" "TitheBarn$Command" "third" "I") ∈ lw_all := lw_g (lw_at lw_m5 14 rfl) rfl
theorem q1079 : (Jvm.Cond.laysFinal "TitheBarn$1Pass" "TitheBarn$Command" "this$0" "LTitheBarn;") ∈ lw_all := lw_g (lw_at lw_m5 15 rfl) rfl
theorem q1080 : (Jvm.Cond.superclass "TitheBarn$1Pass" "TitheBarn$Command") ∈ lw_all := lw_g (lw_at lw_m5 16 rfl) rfl
theorem q1144 : (Jvm.Cond.selects "TitheBarn$1Pass" ({ cls := "TitheBarn$Command", name := "done", desc := "()I" } : Jvm.MethodName) ({ cls := "TitheBarn$1Pass", name := "done", desc := "()I" } : Jvm.MethodName)) ∈ lw_all := lw_g (lw_at lw_m5 80 rfl) rfl
theorem q1145 : (Jvm.Cond.instanceMethod ({ cls := "TitheBarn$1Pass", name := "done", desc := "()I" } : Jvm.MethodName)) ∈ lw_all := lw_g (lw_at lw_m5 81 rfl) rfl
theorem q1146 : (Jvm.Cond.code ({ cls := "TitheBarn$1Pass", name := "done", desc := "()I" } : Jvm.MethodName) prog_4_method_2_code (1 : Nat) (Option.some Jvm.ClassFile.FieldType.int)) ∈ lw_all := lw_g (lw_at lw_m5 82 rfl) rfl
theorem q1147 : (Jvm.Cond.methodLinkNest "TitheBarn$1Pass" (17 : Nat) ({ cls := "TitheBarn", name := "doPass", desc := "(I)I" } : Jvm.MethodName) "TitheBarn") ∈ lw_tbl := lw_at lw_m5 83 rfl
theorem q1942 : (Jvm.Cond.castable "TitheBarn$1Pass" "java/lang/Object") ∈ lw_tbl := lw_at lw_m8 158 rfl
theorem q1952 : (Jvm.Cond.castable "TitheBarn$1Pass" "TitheBarn$Command") ∈ lw_tbl := lw_at lw_m8 168 rfl
theorem in_X17 : ∀ w ∈ wsX170, w ∈ lw_all := lw_in wsX170 [1076, 1077, 1078, 1079, 1074] (by decide +kernel) (by decide +kernel)
/-! TitheBarn$1Cat -/
def RX18 : String := "TitheBarn$1Cat"
def TX18 : u_T := fun k => match k with
  | 0 => ("TitheBarn$Command", "one", "I", true)
  | 1 => ("TitheBarn$Command", "other", "I", true)
  | 2 => ("TitheBarn$Command", "third", "I", true)
  | 3 => ("TitheBarn$Command", "this$0", "LTitheBarn;", true)
  | _ => ("TitheBarn$1Cat", "this$0", "LTitheBarn;", true)
def tyX18 : Nat → FieldType := fun k => match k with
  | 0 => .int
  | 1 => .int
  | 2 => .int
  | 3 => .object "TitheBarn"
  | _ => .object "TitheBarn"
abbrev wsX180 : List Cond := u_ws RX18 TX18 5
-- two fields of one name: no nmX18
theorem tyX18_ok : ∀ k, k < 5 → parseFieldDescriptor (TX18 k).2.2.1 = some (tyX18 k) := by decide +kernel
abbrev cX18_init : ByteArray := prog_2_method_1_code
def yX18_init : MethodName := ⟨RX18, "<init>", "(LTitheBarn;I)V"⟩
abbrev cX18_done : ByteArray := prog_2_method_2_code
def yX18_done : MethodName := ⟨RX18, "done", "()I"⟩
theorem q135 : (Jvm.Cond.initialized "TitheBarn$1Cat") ∈ lw_all := lw_g (lw_at lw_m1 31 rfl) rfl
theorem q968 : (Jvm.Cond.fieldLink "TitheBarn$1Cat" (13 : Nat) "TitheBarn$1Cat" "one" "I") ∈ lw_all := lw_g (lw_at lw_m4 144 rfl) rfl
theorem q969 : (Jvm.Cond.sameField "TitheBarn$1Cat" "TitheBarn$Command" "one" "I") ∈ lw_all := lw_g (lw_at lw_m4 145 rfl) rfl
theorem q1082 : (Jvm.Cond.instantiable "TitheBarn$1Cat" (5 : Nat)) ∈ lw_all := lw_g (lw_at lw_m5 18 rfl) rfl
theorem q1084 : (Jvm.Cond.instanceMethod ({ cls := "TitheBarn$1Cat", name := "<init>", desc := "(LTitheBarn;I)V" } : Jvm.MethodName)) ∈ lw_all := lw_g (lw_at lw_m5 20 rfl) rfl
theorem q1085 : (Jvm.Cond.code ({ cls := "TitheBarn$1Cat", name := "<init>", desc := "(LTitheBarn;I)V" } : Jvm.MethodName) prog_2_method_1_code (3 : Nat) (Option.none : Option Jvm.ClassFile.FieldType)) ∈ lw_all := lw_g (lw_at lw_m5 21 rfl) rfl
theorem q1086 : (Jvm.Cond.methodLink "TitheBarn$1Cat" (7 : Nat) ({ cls := "TitheBarn$Command", name := "<init>", desc := "(LTitheBarn;[I)V" } : Jvm.MethodName)) ∈ lw_all := lw_g (lw_at lw_m5 22 rfl) rfl
theorem q1087 : (Jvm.Cond.fieldLink "TitheBarn$1Cat" (1 : Nat) "TitheBarn$1Cat" "this$0" "LTitheBarn;") ∈ lw_all := lw_g (lw_at lw_m5 23 rfl) rfl
theorem q1088 : (Jvm.Cond.laysFinal "TitheBarn$1Cat" "TitheBarn$1Cat" "this$0" "LTitheBarn;") ∈ lw_all := lw_g (lw_at lw_m5 24 rfl) rfl
theorem q1089 : (Jvm.Cond.soleField "TitheBarn$1Cat" "this$0") ∈ lw_all := lw_g (lw_at lw_m5 25 rfl) rfl
theorem q1090 : (Jvm.Cond.laysFinal "TitheBarn$1Cat" "TitheBarn$Command" "one" "I") ∈ lw_all := lw_g (lw_at lw_m5 26 rfl) rfl
theorem q1091 : (Jvm.Cond.laysFinal "TitheBarn$1Cat" "TitheBarn$Command" "other" "I") ∈ lw_all := lw_g (lw_at lw_m5 27 rfl) rfl
theorem q1092 : (Jvm.Cond.laysFinal "TitheBarn$1Cat" "TitheBarn$Command" "third" "I") ∈ lw_all := lw_g (lw_at lw_m5 28 rfl) rfl
theorem q1093 : (Jvm.Cond.laysFinal "TitheBarn$1Cat" "TitheBarn$Command" "this$0" "LTitheBarn;") ∈ lw_all := lw_g (lw_at lw_m5 29 rfl) rfl
theorem q1094 : (Jvm.Cond.superclass "TitheBarn$1Cat" "TitheBarn$Command") ∈ lw_all := lw_g (lw_at lw_m5 30 rfl) rfl
theorem q1136 : (Jvm.Cond.selects "TitheBarn$1Cat" ({ cls := "TitheBarn$Command", name := "done", desc := "()I" } : Jvm.MethodName) ({ cls := "TitheBarn$1Cat", name := "done", desc := "()I" } : Jvm.MethodName)) ∈ lw_all := lw_g (lw_at lw_m5 72 rfl) rfl
theorem q1137 : (Jvm.Cond.instanceMethod ({ cls := "TitheBarn$1Cat", name := "done", desc := "()I" } : Jvm.MethodName)) ∈ lw_all := lw_g (lw_at lw_m5 73 rfl) rfl
theorem q1138 : (Jvm.Cond.code ({ cls := "TitheBarn$1Cat", name := "done", desc := "()I" } : Jvm.MethodName) prog_2_method_2_code (1 : Nat) (Option.some Jvm.ClassFile.FieldType.int)) ∈ lw_all := lw_g (lw_at lw_m5 74 rfl) rfl
theorem q1139 : (Jvm.Cond.methodLinkNest "TitheBarn$1Cat" (17 : Nat) ({ cls := "TitheBarn", name := "doCat", desc := "(I)I" } : Jvm.MethodName) "TitheBarn") ∈ lw_tbl := lw_at lw_m5 75 rfl
theorem q1943 : (Jvm.Cond.castable "TitheBarn$1Cat" "java/lang/Object") ∈ lw_tbl := lw_at lw_m8 159 rfl
theorem q1953 : (Jvm.Cond.castable "TitheBarn$1Cat" "TitheBarn$Command") ∈ lw_tbl := lw_at lw_m8 169 rfl
theorem in_X18 : ∀ w ∈ wsX180, w ∈ lw_all := lw_in wsX180 [1090, 1091, 1092, 1093, 1088] (by decide +kernel) (by decide +kernel)
/-! TitheBarn$1Gap -/
def RX19 : String := "TitheBarn$1Gap"
def TX19 : u_T := fun k => match k with
  | 0 => ("TitheBarn$Command", "one", "I", true)
  | 1 => ("TitheBarn$Command", "other", "I", true)
  | 2 => ("TitheBarn$Command", "third", "I", true)
  | 3 => ("TitheBarn$Command", "this$0", "LTitheBarn;", true)
  | _ => ("TitheBarn$1Gap", "this$0", "LTitheBarn;", true)
def tyX19 : Nat → FieldType := fun k => match k with
  | 0 => .int
  | 1 => .int
  | 2 => .int
  | 3 => .object "TitheBarn"
  | _ => .object "TitheBarn"
abbrev wsX190 : List Cond := u_ws RX19 TX19 5
-- two fields of one name: no nmX19
theorem tyX19_ok : ∀ k, k < 5 → parseFieldDescriptor (TX19 k).2.2.1 = some (tyX19 k) := by decide +kernel
abbrev cX19_init : ByteArray := prog_3_method_1_code
def yX19_init : MethodName := ⟨RX19, "<init>", "(LTitheBarn;I)V"⟩
abbrev cX19_done : ByteArray := prog_3_method_2_code
def yX19_done : MethodName := ⟨RX19, "done", "()I"⟩
theorem q136 : (Jvm.Cond.initialized "TitheBarn$1Gap") ∈ lw_all := lw_g (lw_at lw_m1 32 rfl) rfl
theorem q970 : (Jvm.Cond.fieldLink "TitheBarn$1Gap" (13 : Nat) "TitheBarn$1Gap" "one" "I") ∈ lw_all := lw_g (lw_at lw_m4 146 rfl) rfl
theorem q971 : (Jvm.Cond.sameField "TitheBarn$1Gap" "TitheBarn$Command" "one" "I") ∈ lw_all := lw_g (lw_at lw_m4 147 rfl) rfl
theorem q1096 : (Jvm.Cond.instantiable "TitheBarn$1Gap" (5 : Nat)) ∈ lw_all := lw_g (lw_at lw_m5 32 rfl) rfl
theorem q1098 : (Jvm.Cond.instanceMethod ({ cls := "TitheBarn$1Gap", name := "<init>", desc := "(LTitheBarn;I)V" } : Jvm.MethodName)) ∈ lw_all := lw_g (lw_at lw_m5 34 rfl) rfl
theorem q1099 : (Jvm.Cond.code ({ cls := "TitheBarn$1Gap", name := "<init>", desc := "(LTitheBarn;I)V" } : Jvm.MethodName) prog_3_method_1_code (3 : Nat) (Option.none : Option Jvm.ClassFile.FieldType)) ∈ lw_all := lw_g (lw_at lw_m5 35 rfl) rfl
theorem q1100 : (Jvm.Cond.methodLink "TitheBarn$1Gap" (7 : Nat) ({ cls := "TitheBarn$Command", name := "<init>", desc := "(LTitheBarn;[I)V" } : Jvm.MethodName)) ∈ lw_all := lw_g (lw_at lw_m5 36 rfl) rfl
theorem q1101 : (Jvm.Cond.fieldLink "TitheBarn$1Gap" (1 : Nat) "TitheBarn$1Gap" "this$0" "LTitheBarn;") ∈ lw_all := lw_g (lw_at lw_m5 37 rfl) rfl
theorem q1102 : (Jvm.Cond.laysFinal "TitheBarn$1Gap" "TitheBarn$1Gap" "this$0" "LTitheBarn;") ∈ lw_all := lw_g (lw_at lw_m5 38 rfl) rfl
theorem q1103 : (Jvm.Cond.soleField "TitheBarn$1Gap" "this$0") ∈ lw_all := lw_g (lw_at lw_m5 39 rfl) rfl
theorem q1104 : (Jvm.Cond.laysFinal "TitheBarn$1Gap" "TitheBarn$Command" "one" "I") ∈ lw_all := lw_g (lw_at lw_m5 40 rfl) rfl
theorem q1105 : (Jvm.Cond.laysFinal "TitheBarn$1Gap" "TitheBarn$Command" "other" "I") ∈ lw_all := lw_g (lw_at lw_m5 41 rfl) rfl
theorem q1106 : (Jvm.Cond.laysFinal "TitheBarn$1Gap" "TitheBarn$Command" "third" "I") ∈ lw_all := lw_g (lw_at lw_m5 42 rfl) rfl
theorem q1107 : (Jvm.Cond.laysFinal "TitheBarn$1Gap" "TitheBarn$Command" "this$0" "LTitheBarn;") ∈ lw_all := lw_g (lw_at lw_m5 43 rfl) rfl
theorem q1108 : (Jvm.Cond.superclass "TitheBarn$1Gap" "TitheBarn$Command") ∈ lw_all := lw_g (lw_at lw_m5 44 rfl) rfl
theorem q1140 : (Jvm.Cond.selects "TitheBarn$1Gap" ({ cls := "TitheBarn$Command", name := "done", desc := "()I" } : Jvm.MethodName) ({ cls := "TitheBarn$1Gap", name := "done", desc := "()I" } : Jvm.MethodName)) ∈ lw_all := lw_g (lw_at lw_m5 76 rfl) rfl
theorem q1141 : (Jvm.Cond.instanceMethod ({ cls := "TitheBarn$1Gap", name := "done", desc := "()I" } : Jvm.MethodName)) ∈ lw_all := lw_g (lw_at lw_m5 77 rfl) rfl
theorem q1142 : (Jvm.Cond.code ({ cls := "TitheBarn$1Gap", name := "done", desc := "()I" } : Jvm.MethodName) prog_3_method_2_code (1 : Nat) (Option.some Jvm.ClassFile.FieldType.int)) ∈ lw_all := lw_g (lw_at lw_m5 78 rfl) rfl
theorem q1143 : (Jvm.Cond.methodLinkNest "TitheBarn$1Gap" (17 : Nat) ({ cls := "TitheBarn", name := "doStop", desc := "(I)I" } : Jvm.MethodName) "TitheBarn") ∈ lw_tbl := lw_at lw_m5 79 rfl
theorem q1944 : (Jvm.Cond.castable "TitheBarn$1Gap" "java/lang/Object") ∈ lw_tbl := lw_at lw_m8 160 rfl
theorem q1954 : (Jvm.Cond.castable "TitheBarn$1Gap" "TitheBarn$Command") ∈ lw_tbl := lw_at lw_m8 170 rfl
theorem in_X19 : ∀ w ∈ wsX190, w ∈ lw_all := lw_in wsX190 [1104, 1105, 1106, 1107, 1102] (by decide +kernel) (by decide +kernel)
/-! TitheBarn$Bay$Climb -/
def RX20 : String := "TitheBarn$Bay$Climb"
def TX20 : u_T := fun k => match k with
  | 0 => ("TitheBarn$Bay$Climb", "at", "I", false)
  | _ => ("TitheBarn$Bay$Climb", "this$0", "LTitheBarn$Bay;", true)
def tyX20 : Nat → FieldType := fun k => match k with
  | 0 => .int
  | _ => .object "TitheBarn$Bay"
abbrev wsX200 : List Cond := u_ws RX20 TX20 2
theorem nmX20 : ∀ a, a < 2 → ∀ b, b < 2 → a ≠ b → (TX20 a).2.1 ≠ (TX20 b).2.1 := by decide +kernel
theorem tyX20_ok : ∀ k, k < 2 → parseFieldDescriptor (TX20 k).2.2.1 = some (tyX20 k) := by decide +kernel
abbrev cX20_init : ByteArray := prog_6_method_1_code
def yX20_init : MethodName := ⟨RX20, "<init>", "(LTitheBarn$Bay;)V"⟩
abbrev cX20_hasNext : ByteArray := prog_6_method_2_code
def yX20_hasNext : MethodName := ⟨RX20, "hasNext", "()Z"⟩
abbrev cX20_next : ByteArray := prog_6_method_4_code
def yX20_next : MethodName := ⟨RX20, "next", "()Ljava/lang/Object;"⟩
abbrev cX20_next_2 : ByteArray := prog_6_method_3_code
def yX20_next_2 : MethodName := ⟨RX20, "next", "()LTitheBarn$Lot;"⟩
theorem q137 : (Jvm.Cond.initialized "TitheBarn$Bay$Climb") ∈ lw_all := lw_g (lw_at lw_m1 33 rfl) rfl
theorem q230 : (Jvm.Cond.fieldLinkNest "TitheBarn$Bay$Climb" (29 : Nat) "TitheBarn$Bay" "lots" "[LTitheBarn$Lot;" "TitheBarn") ∈ lw_tbl := lw_at lw_m1 126 rfl
theorem q232 : (Jvm.Cond.fieldLinkNest "TitheBarn$Bay$Climb" (17 : Nat) "TitheBarn$Bay" "many" "I" "TitheBarn") ∈ lw_tbl := lw_at lw_m1 128 rfl
theorem q1194 : (Jvm.Cond.instantiable "TitheBarn$Bay$Climb" (2 : Nat)) ∈ lw_all := lw_g (lw_at lw_m5 130 rfl) rfl
theorem q1196 : (Jvm.Cond.instanceMethod ({ cls := "TitheBarn$Bay$Climb", name := "<init>", desc := "(LTitheBarn$Bay;)V" } : Jvm.MethodName)) ∈ lw_all := lw_g (lw_at lw_m5 132 rfl) rfl
theorem q1197 : (Jvm.Cond.code ({ cls := "TitheBarn$Bay$Climb", name := "<init>", desc := "(LTitheBarn$Bay;)V" } : Jvm.MethodName) prog_6_method_1_code (2 : Nat) (Option.none : Option Jvm.ClassFile.FieldType)) ∈ lw_all := lw_g (lw_at lw_m5 133 rfl) rfl
theorem q1198 : (Jvm.Cond.methodLink "TitheBarn$Bay$Climb" (7 : Nat) ({ cls := "java/lang/Object", name := "<init>", desc := "()V" } : Jvm.MethodName)) ∈ lw_all := lw_g (lw_at lw_m5 134 rfl) rfl
theorem q1199 : (Jvm.Cond.fieldLink "TitheBarn$Bay$Climb" (13 : Nat) "TitheBarn$Bay$Climb" "at" "I") ∈ lw_all := lw_g (lw_at lw_m5 135 rfl) rfl
theorem q1200 : (Jvm.Cond.fieldLink "TitheBarn$Bay$Climb" (1 : Nat) "TitheBarn$Bay$Climb" "this$0" "LTitheBarn$Bay;") ∈ lw_all := lw_g (lw_at lw_m5 136 rfl) rfl
theorem q1201 : (Jvm.Cond.lays "TitheBarn$Bay$Climb" "TitheBarn$Bay$Climb" "at" "I") ∈ lw_all := lw_g (lw_at lw_m5 137 rfl) rfl
theorem q1202 : (Jvm.Cond.soleField "TitheBarn$Bay$Climb" "at") ∈ lw_all := lw_g (lw_at lw_m5 138 rfl) rfl
theorem q1203 : (Jvm.Cond.laysFinal "TitheBarn$Bay$Climb" "TitheBarn$Bay$Climb" "this$0" "LTitheBarn$Bay;") ∈ lw_all := lw_g (lw_at lw_m5 139 rfl) rfl
theorem q1204 : (Jvm.Cond.soleField "TitheBarn$Bay$Climb" "this$0") ∈ lw_all := lw_g (lw_at lw_m5 140 rfl) rfl
theorem q1205 : (Jvm.Cond.superclass "TitheBarn$Bay$Climb" "java/lang/Object") ∈ lw_all := lw_g (lw_at lw_m5 141 rfl) rfl
theorem q1210 : (Jvm.Cond.castable "TitheBarn$Bay$Climb" "java/util/Iterator") ∈ lw_tbl := lw_at lw_m5 146 rfl
theorem q1211 : (Jvm.Cond.selects "TitheBarn$Bay$Climb" ({ cls := "java/util/Iterator", name := "hasNext", desc := "()Z" } : Jvm.MethodName) ({ cls := "TitheBarn$Bay$Climb", name := "hasNext", desc := "()Z" } : Jvm.MethodName)) ∈ lw_all := lw_g (lw_at lw_m5 147 rfl) rfl
theorem q1212 : (Jvm.Cond.unhidden "TitheBarn$Bay$Climb" "hasNext" "()Z") ∈ lw_tbl := lw_at lw_m5 148 rfl
theorem q1213 : (Jvm.Cond.instanceMethod ({ cls := "TitheBarn$Bay$Climb", name := "hasNext", desc := "()Z" } : Jvm.MethodName)) ∈ lw_all := lw_g (lw_at lw_m5 149 rfl) rfl
theorem q1214 : (Jvm.Cond.publicMethod ({ cls := "TitheBarn$Bay$Climb", name := "hasNext", desc := "()Z" } : Jvm.MethodName)) ∈ lw_tbl := lw_at lw_m5 150 rfl
theorem q1215 : (Jvm.Cond.code ({ cls := "TitheBarn$Bay$Climb", name := "hasNext", desc := "()Z" } : Jvm.MethodName) prog_6_method_2_code (1 : Nat) (Option.some Jvm.ClassFile.FieldType.boolean)) ∈ lw_all := lw_g (lw_at lw_m5 151 rfl) rfl
theorem q1220 : (Jvm.Cond.selects "TitheBarn$Bay$Climb" ({ cls := "java/util/Iterator", name := "next", desc := "()Ljava/lang/Object;" } : Jvm.MethodName) ({ cls := "TitheBarn$Bay$Climb", name := "next", desc := "()Ljava/lang/Object;" } : Jvm.MethodName)) ∈ lw_all := lw_g (lw_at lw_m5 156 rfl) rfl
theorem q1221 : (Jvm.Cond.unhidden "TitheBarn$Bay$Climb" "next" "()Ljava/lang/Object;") ∈ lw_tbl := lw_at lw_m5 157 rfl
theorem q1222 : (Jvm.Cond.instanceMethod ({ cls := "TitheBarn$Bay$Climb", name := "next", desc := "()Ljava/lang/Object;" } : Jvm.MethodName)) ∈ lw_all := lw_g (lw_at lw_m5 158 rfl) rfl
theorem q1223 : (Jvm.Cond.publicMethod ({ cls := "TitheBarn$Bay$Climb", name := "next", desc := "()Ljava/lang/Object;" } : Jvm.MethodName)) ∈ lw_tbl := lw_at lw_m5 159 rfl
theorem q1224 : (Jvm.Cond.code ({ cls := "TitheBarn$Bay$Climb", name := "next", desc := "()Ljava/lang/Object;" } : Jvm.MethodName) prog_6_method_4_code (1 : Nat) (Option.some (Jvm.ClassFile.FieldType.object "java/lang/Object"))) ∈ lw_all := lw_g (lw_at lw_m5 160 rfl) rfl
theorem q1225 : (Jvm.Cond.methodLink "TitheBarn$Bay$Climb" (33 : Nat) ({ cls := "TitheBarn$Bay$Climb", name := "next", desc := "()LTitheBarn$Lot;" } : Jvm.MethodName)) ∈ lw_all := lw_g (lw_at lw_m5 161 rfl) rfl
theorem q1226 : (Jvm.Cond.instanceMethod ({ cls := "TitheBarn$Bay$Climb", name := "next", desc := "()LTitheBarn$Lot;" } : Jvm.MethodName)) ∈ lw_all := lw_g (lw_at lw_m5 162 rfl) rfl
theorem q1227 : (Jvm.Cond.selects "TitheBarn$Bay$Climb" ({ cls := "TitheBarn$Bay$Climb", name := "next", desc := "()LTitheBarn$Lot;" } : Jvm.MethodName) ({ cls := "TitheBarn$Bay$Climb", name := "next", desc := "()LTitheBarn$Lot;" } : Jvm.MethodName)) ∈ lw_all := lw_g (lw_at lw_m5 163 rfl) rfl
theorem q1228 : (Jvm.Cond.code ({ cls := "TitheBarn$Bay$Climb", name := "next", desc := "()LTitheBarn$Lot;" } : Jvm.MethodName) prog_6_method_3_code (1 : Nat) (Option.some (Jvm.ClassFile.FieldType.object "TitheBarn$Lot"))) ∈ lw_all := lw_g (lw_at lw_m5 164 rfl) rfl
theorem q1229 : (Jvm.Cond.methodLink "TitheBarn$Bay$Climb" (22 : Nat) ({ cls := "TitheBarn$Bay$Climb", name := "hasNext", desc := "()Z" } : Jvm.MethodName)) ∈ lw_all := lw_g (lw_at lw_m5 165 rfl) rfl
theorem q1230 : (Jvm.Cond.classLink "TitheBarn$Bay$Climb" (26 : Nat) "java/util/NoSuchElementException") ∈ lw_all := lw_g (lw_at lw_m5 166 rfl) rfl
theorem q1241 : (Jvm.Cond.methodLink "TitheBarn$Bay$Climb" (28 : Nat) ({ cls := "java/util/NoSuchElementException", name := "<init>", desc := "()V" } : Jvm.MethodName)) ∈ lw_all := lw_g (lw_at lw_m5 177 rfl) rfl
theorem q1922 : (Jvm.Cond.selects "TitheBarn$Bay$Climb" ({ cls := "TitheBarn$Bay$Climb", name := "hasNext", desc := "()Z" } : Jvm.MethodName) ({ cls := "TitheBarn$Bay$Climb", name := "hasNext", desc := "()Z" } : Jvm.MethodName)) ∈ lw_all := lw_g (lw_at lw_m8 138 rfl) rfl
theorem q1945 : (Jvm.Cond.castable "TitheBarn$Bay$Climb" "java/lang/Object") ∈ lw_tbl := lw_at lw_m8 161 rfl
theorem in_X20 : ∀ w ∈ wsX200, w ∈ lw_all := lw_in wsX200 [1201, 1203] (by decide +kernel) (by decide +kernel)
theorem q157 : (Jvm.Cond.arrayOver (Jvm.ClassFile.FieldType.object "TitheBarn$Parish")) ∈ lw_tbl := lw_at lw_m1 53 rfl
theorem q159 : (Jvm.Cond.arrayOver (Jvm.ClassFile.FieldType.object "TitheBarn$Bay")) ∈ lw_tbl := lw_at lw_m1 55 rfl
theorem q161 : (Jvm.Cond.arrayOver (Jvm.ClassFile.FieldType.object "TitheBarn$Floor")) ∈ lw_tbl := lw_at lw_m1 57 rfl
theorem q163 : (Jvm.Cond.arrayOver (Jvm.ClassFile.FieldType.object "TitheBarn$Bin")) ∈ lw_tbl := lw_at lw_m1 59 rfl
theorem q165 : (Jvm.Cond.arrayOver (Jvm.ClassFile.FieldType.object "TitheBarn$Place")) ∈ lw_tbl := lw_at lw_m1 61 rfl
theorem q200 : (Jvm.Cond.arrayClass Jvm.ClassFile.FieldType.int) ∈ lw_all := lw_g (lw_at lw_m1 96 rfl) rfl
theorem q207 : (Jvm.Cond.arrayOver (Jvm.ClassFile.FieldType.object "TitheBarn$Lot")) ∈ lw_tbl := lw_at lw_m1 103 rfl
theorem q360 : (Jvm.Cond.arrayOver (Jvm.ClassFile.FieldType.object "TitheBarn$State")) ∈ lw_tbl := lw_at lw_m2 16 rfl
theorem q392 : (Jvm.Cond.arrayClass Jvm.ClassFile.FieldType.byte) ∈ lw_all := lw_g (lw_at lw_m2 48 rfl) rfl
theorem q394 : (Jvm.Cond.arrayOver (Jvm.ClassFile.FieldType.object "TitheBarn$Command")) ∈ lw_tbl := lw_at lw_m2 50 rfl
theorem q676 : (Jvm.Cond.arrayClass Jvm.ClassFile.FieldType.boolean) ∈ lw_all := lw_g (lw_at lw_m3 92 rfl) rfl
theorem q121 : (Jvm.Cond.initialized "java/lang/System") ∈ lw_all := lw_g (lw_at lw_m1 17 rfl) rfl
theorem q481 : (Jvm.Cond.static ({ cls := "java/lang/System", name := "arraycopy", desc := "(Ljava/lang/Object;ILjava/lang/Object;II)V" } : Jvm.MethodName)) ∈ lw_all := lw_g (lw_at lw_m2 137 rfl) rfl
theorem q482 : (Jvm.Cond.native ({ cls := "java/lang/System", name := "arraycopy", desc := "(Ljava/lang/Object;ILjava/lang/Object;II)V" } : Jvm.MethodName)) ∈ lw_all := lw_g (lw_at lw_m2 138 rfl) rfl
theorem q104 : (Jvm.Cond.initialized "TitheBarnLaw") ∈ lw_all := lw_g (lw_at lw_m1 0 rfl) rfl
theorem q142 : (Jvm.Cond.classLink "TitheBarnLaw" (7 : Nat) "TitheBarn") ∈ lw_all := lw_g (lw_at lw_m1 38 rfl) rfl
theorem q144 : (Jvm.Cond.methodLink "TitheBarnLaw" (9 : Nat) ({ cls := "TitheBarn", name := "<init>", desc := "()V" } : Jvm.MethodName)) ∈ lw_all := lw_g (lw_at lw_m1 40 rfl) rfl
theorem q438 : (Jvm.Cond.methodLink "TitheBarnLaw" (13 : Nat) ({ cls := "TitheBarn", name := "clear", desc := "()I" } : Jvm.MethodName)) ∈ lw_all := lw_g (lw_at lw_m2 94 rfl) rfl
theorem q462 : (Jvm.Cond.methodLink "TitheBarnLaw" (23 : Nat) ({ cls := "TitheBarn", name := "parish", desc := "(I)I" } : Jvm.MethodName)) ∈ lw_all := lw_g (lw_at lw_m2 118 rfl) rfl
theorem q622 : (Jvm.Cond.methodLink "TitheBarnLaw" (28 : Nat) ({ cls := "TitheBarn", name := "harvest", desc := "(II)I" } : Jvm.MethodName)) ∈ lw_all := lw_g (lw_at lw_m3 38 rfl) rfl
theorem q642 : (Jvm.Cond.methodLink "TitheBarnLaw" (33 : Nat) ({ cls := "TitheBarn", name := "cart", desc := "(III)I" } : Jvm.MethodName)) ∈ lw_all := lw_g (lw_at lw_m3 58 rfl) rfl
theorem q677 : (Jvm.Cond.methodLink "TitheBarnLaw" (38 : Nat) ({ cls := "TitheBarn", name := "thresh", desc := "(III)I" } : Jvm.MethodName)) ∈ lw_all := lw_g (lw_at lw_m3 93 rfl) rfl
theorem q700 : (Jvm.Cond.methodLink "TitheBarnLaw" (42 : Nat) ({ cls := "TitheBarn", name := "flails", desc := "(II)I" } : Jvm.MethodName)) ∈ lw_all := lw_g (lw_at lw_m3 116 rfl) rfl
theorem q708 : (Jvm.Cond.methodLink "TitheBarnLaw" (46 : Nat) ({ cls := "TitheBarn", name := "price", desc := "(II)I" } : Jvm.MethodName)) ∈ lw_all := lw_g (lw_at lw_m3 124 rfl) rfl
theorem q716 : (Jvm.Cond.methodLink "TitheBarnLaw" (50 : Nat) ({ cls := "TitheBarn", name := "sell", desc := "(III)I" } : Jvm.MethodName)) ∈ lw_all := lw_g (lw_at lw_m3 132 rfl) rfl
theorem q724 : (Jvm.Cond.methodLink "TitheBarnLaw" (54 : Nat) ({ cls := "TitheBarn", name := "settle", desc := "(II)I" } : Jvm.MethodName)) ∈ lw_all := lw_g (lw_at lw_m3 140 rfl) rfl
theorem q732 : (Jvm.Cond.methodLink "TitheBarnLaw" (58 : Nat) ({ cls := "TitheBarn", name := "stop", desc := "(I)I" } : Jvm.MethodName)) ∈ lw_all := lw_g (lw_at lw_m3 148 rfl) rfl
theorem q743 : (Jvm.Cond.methodLink "TitheBarnLaw" (62 : Nat) ({ cls := "TitheBarn", name := "cat", desc := "(I)I" } : Jvm.MethodName)) ∈ lw_all := lw_g (lw_at lw_m3 159 rfl) rfl
theorem q751 : (Jvm.Cond.methodLink "TitheBarnLaw" (66 : Nat) ({ cls := "TitheBarn", name := "pass", desc := "(I)I" } : Jvm.MethodName)) ∈ lw_all := lw_g (lw_at lw_m3 167 rfl) rfl
theorem q792 : (Jvm.Cond.methodLink "TitheBarnLaw" (18 : Nat) ({ cls := "TitheBarn", name := "append", desc := "(C)I" } : Jvm.MethodName)) ∈ lw_all := lw_g (lw_at lw_m3 208 rfl) rfl
theorem q894 : (Jvm.Cond.methodLink "TitheBarnLaw" (74 : Nat) ({ cls := "TitheBarn", name := "fault", desc := "()I" } : Jvm.MethodName)) ∈ lw_all := lw_g (lw_at lw_m4 70 rfl) rfl
theorem q898 : (Jvm.Cond.methodLink "TitheBarnLaw" (70 : Nat) ({ cls := "TitheBarn", name := "script", desc := "()I" } : Jvm.MethodName)) ∈ lw_all := lw_g (lw_at lw_m4 74 rfl) rfl
theorem q1164 : (Jvm.Cond.methodLink "TitheBarnLaw" (78 : Nat) ({ cls := "TitheBarn", name := "reason", desc := "(II)I" } : Jvm.MethodName)) ∈ lw_all := lw_g (lw_at lw_m5 100 rfl) rfl
theorem q1181 : (Jvm.Cond.methodLink "TitheBarnLaw" (82 : Nat) ({ cls := "TitheBarn", name := "parishOf", desc := "(II)I" } : Jvm.MethodName)) ∈ lw_all := lw_g (lw_at lw_m5 117 rfl) rfl
theorem q1262 : (Jvm.Cond.methodLink "TitheBarnLaw" (86 : Nat) ({ cls := "TitheBarn", name := "bayOf", desc := "(II)I" } : Jvm.MethodName)) ∈ lw_all := lw_g (lw_at lw_m5 198 rfl) rfl
theorem q1276 : (Jvm.Cond.methodLink "TitheBarnLaw" (90 : Nat) ({ cls := "TitheBarn", name := "lotOf", desc := "(III)I" } : Jvm.MethodName)) ∈ lw_all := lw_g (lw_at lw_m5 212 rfl) rfl
theorem q1280 : (Jvm.Cond.methodLink "TitheBarnLaw" (94 : Nat) ({ cls := "TitheBarn", name := "floorOf", desc := "(II)I" } : Jvm.MethodName)) ∈ lw_all := lw_g (lw_at lw_m5 216 rfl) rfl
theorem q1284 : (Jvm.Cond.methodLink "TitheBarnLaw" (98 : Nat) ({ cls := "TitheBarn", name := "binOf", desc := "(II)I" } : Jvm.MethodName)) ∈ lw_all := lw_g (lw_at lw_m5 220 rfl) rfl
theorem q1288 : (Jvm.Cond.methodLink "TitheBarnLaw" (102 : Nat) ({ cls := "TitheBarn", name := "placeOf", desc := "(II)I" } : Jvm.MethodName)) ∈ lw_all := lw_g (lw_at lw_m5 224 rfl) rfl
theorem q1292 : (Jvm.Cond.methodLink "TitheBarnLaw" (106 : Nat) ({ cls := "TitheBarn", name := "tithe", desc := "(II)I" } : Jvm.MethodName)) ∈ lw_all := lw_g (lw_at lw_m5 228 rfl) rfl
theorem q1296 : (Jvm.Cond.methodLink "TitheBarnLaw" (110 : Nat) ({ cls := "TitheBarn", name := "titheAgain", desc := "(II)I" } : Jvm.MethodName)) ∈ lw_all := lw_g (lw_at lw_m5 232 rfl) rfl
theorem q1300 : (Jvm.Cond.methodLink "TitheBarnLaw" (114 : Nat) ({ cls := "TitheBarn", name := "lasts", desc := "(I)I" } : Jvm.MethodName)) ∈ lw_all := lw_g (lw_at lw_m5 236 rfl) rfl
theorem q1304 : (Jvm.Cond.methodLink "TitheBarnLaw" (118 : Nat) ({ cls := "TitheBarn", name := "bestCat", desc := "(I)I" } : Jvm.MethodName)) ∈ lw_all := lw_g (lw_at lw_m6 0 rfl) rfl
theorem q1314 : (Jvm.Cond.methodLink "TitheBarnLaw" (122 : Nat) ({ cls := "TitheBarn", name := "ranked", desc := "(I)I" } : Jvm.MethodName)) ∈ lw_all := lw_g (lw_at lw_m6 10 rfl) rfl
theorem q1318 : (Jvm.Cond.methodLink "TitheBarnLaw" (126 : Nat) ({ cls := "TitheBarn", name := "grain", desc := "(I)I" } : Jvm.MethodName)) ∈ lw_all := lw_g (lw_at lw_m6 14 rfl) rfl
theorem q1340 : (Jvm.Cond.methodLink "TitheBarnLaw" (130 : Nat) ({ cls := "TitheBarn", name := "grainAgain", desc := "()I" } : Jvm.MethodName)) ∈ lw_all := lw_g (lw_at lw_m6 36 rfl) rfl
theorem q1344 : (Jvm.Cond.methodLink "TitheBarnLaw" (134 : Nat) ({ cls := "TitheBarn", name := "share", desc := "(I)F" } : Jvm.MethodName)) ∈ lw_all := lw_g (lw_at lw_m6 40 rfl) rfl
theorem q1353 : (Jvm.Cond.methodLink "TitheBarnLaw" (139 : Nat) ({ cls := "TitheBarn", name := "meanRats", desc := "()D" } : Jvm.MethodName)) ∈ lw_all := lw_g (lw_at lw_m6 49 rfl) rfl
theorem q1363 : (Jvm.Cond.methodLink "TitheBarnLaw" (144 : Nat) ({ cls := "TitheBarn", name := "describe", desc := "(I)I" } : Jvm.MethodName)) ∈ lw_all := lw_g (lw_at lw_m6 59 rfl) rfl
theorem q1401 : (Jvm.Cond.methodLink "TitheBarnLaw" (148 : Nat) ({ cls := "TitheBarn", name := "written", desc := "(I)I" } : Jvm.MethodName)) ∈ lw_all := lw_g (lw_at lw_m6 97 rfl) rfl
theorem q1405 : (Jvm.Cond.methodLink "TitheBarnLaw" (152 : Nat) ({ cls := "TitheBarn", name := "account", desc := "(I)I" } : Jvm.MethodName)) ∈ lw_all := lw_g (lw_at lw_m6 101 rfl) rfl
theorem q1409 : (Jvm.Cond.methodLink "TitheBarnLaw" (156 : Nat) ({ cls := "TitheBarn", name := "undo", desc := "()I" } : Jvm.MethodName)) ∈ lw_all := lw_g (lw_at lw_m6 105 rfl) rfl
theorem q1413 : (Jvm.Cond.methodLink "TitheBarnLaw" (160 : Nat) ({ cls := "TitheBarn", name := "save", desc := "()I" } : Jvm.MethodName)) ∈ lw_all := lw_g (lw_at lw_m6 109 rfl) rfl
theorem q1417 : (Jvm.Cond.methodLink "TitheBarnLaw" (164 : Nat) ({ cls := "TitheBarn", name := "restore", desc := "()I" } : Jvm.MethodName)) ∈ lw_all := lw_g (lw_at lw_m6 113 rfl) rfl
theorem q1421 : (Jvm.Cond.classLink "TitheBarnLaw" (10 : Nat) "TitheBarnModel") ∈ lw_all := lw_g (lw_at lw_m6 117 rfl) rfl
theorem q1423 : (Jvm.Cond.methodLink "TitheBarnLaw" (12 : Nat) ({ cls := "TitheBarnModel", name := "<init>", desc := "()V" } : Jvm.MethodName)) ∈ lw_all := lw_g (lw_at lw_m6 119 rfl) rfl
theorem q1501 : (Jvm.Cond.methodLink "TitheBarnLaw" (17 : Nat) ({ cls := "TitheBarnModel", name := "clear", desc := "()I" } : Jvm.MethodName)) ∈ lw_all := lw_g (lw_at lw_m6 197 rfl) rfl
theorem q1505 : (Jvm.Cond.methodLink "TitheBarnLaw" (22 : Nat) ({ cls := "TitheBarnModel", name := "append", desc := "(C)I" } : Jvm.MethodName)) ∈ lw_all := lw_g (lw_at lw_m6 201 rfl) rfl
theorem q1512 : (Jvm.Cond.methodLink "TitheBarnLaw" (81 : Nat) ({ cls := "TitheBarnModel", name := "reason", desc := "(II)I" } : Jvm.MethodName)) ∈ lw_all := lw_g (lw_at lw_m6 208 rfl) rfl
theorem q1516 : (Jvm.Cond.methodLink "TitheBarnLaw" (159 : Nat) ({ cls := "TitheBarnModel", name := "undo", desc := "()I" } : Jvm.MethodName)) ∈ lw_all := lw_g (lw_at lw_m6 212 rfl) rfl
theorem q1523 : (Jvm.Cond.methodLink "TitheBarnLaw" (163 : Nat) ({ cls := "TitheBarnModel", name := "save", desc := "()I" } : Jvm.MethodName)) ∈ lw_all := lw_g (lw_at lw_m6 219 rfl) rfl
theorem q1527 : (Jvm.Cond.methodLink "TitheBarnLaw" (167 : Nat) ({ cls := "TitheBarnModel", name := "restore", desc := "()I" } : Jvm.MethodName)) ∈ lw_all := lw_g (lw_at lw_m6 223 rfl) rfl
theorem q1531 : (Jvm.Cond.methodLink "TitheBarnLaw" (27 : Nat) ({ cls := "TitheBarnModel", name := "parish", desc := "(I)I" } : Jvm.MethodName)) ∈ lw_all := lw_g (lw_at lw_m6 227 rfl) rfl
theorem q1562 : (Jvm.Cond.methodLink "TitheBarnLaw" (32 : Nat) ({ cls := "TitheBarnModel", name := "harvest", desc := "(II)I" } : Jvm.MethodName)) ∈ lw_all := lw_g (lw_at lw_m7 18 rfl) rfl
theorem q1582 : (Jvm.Cond.methodLink "TitheBarnLaw" (109 : Nat) ({ cls := "TitheBarnModel", name := "tithe", desc := "(II)I" } : Jvm.MethodName)) ∈ lw_all := lw_g (lw_at lw_m7 38 rfl) rfl
theorem q1586 : (Jvm.Cond.methodLink "TitheBarnLaw" (113 : Nat) ({ cls := "TitheBarnModel", name := "titheAgain", desc := "(II)I" } : Jvm.MethodName)) ∈ lw_all := lw_g (lw_at lw_m7 42 rfl) rfl
theorem q1591 : (Jvm.Cond.methodLink "TitheBarnLaw" (37 : Nat) ({ cls := "TitheBarnModel", name := "cart", desc := "(III)I" } : Jvm.MethodName)) ∈ lw_all := lw_g (lw_at lw_m7 47 rfl) rfl
theorem q1617 : (Jvm.Cond.methodLink "TitheBarnLaw" (89 : Nat) ({ cls := "TitheBarnModel", name := "bayOf", desc := "(II)I" } : Jvm.MethodName)) ∈ lw_all := lw_g (lw_at lw_m7 73 rfl) rfl
theorem q1641 : (Jvm.Cond.methodLink "TitheBarnLaw" (93 : Nat) ({ cls := "TitheBarnModel", name := "lotOf", desc := "(III)I" } : Jvm.MethodName)) ∈ lw_all := lw_g (lw_at lw_m7 97 rfl) rfl
theorem q1653 : (Jvm.Cond.methodLink "TitheBarnLaw" (41 : Nat) ({ cls := "TitheBarnModel", name := "thresh", desc := "(III)I" } : Jvm.MethodName)) ∈ lw_all := lw_g (lw_at lw_m7 109 rfl) rfl
theorem q1676 : (Jvm.Cond.methodLink "TitheBarnLaw" (45 : Nat) ({ cls := "TitheBarnModel", name := "flails", desc := "(II)I" } : Jvm.MethodName)) ∈ lw_all := lw_g (lw_at lw_m7 132 rfl) rfl
theorem q1684 : (Jvm.Cond.methodLink "TitheBarnLaw" (49 : Nat) ({ cls := "TitheBarnModel", name := "price", desc := "(II)I" } : Jvm.MethodName)) ∈ lw_all := lw_g (lw_at lw_m7 140 rfl) rfl
theorem q1688 : (Jvm.Cond.methodLink "TitheBarnLaw" (97 : Nat) ({ cls := "TitheBarnModel", name := "floorOf", desc := "(II)I" } : Jvm.MethodName)) ∈ lw_all := lw_g (lw_at lw_m7 144 rfl) rfl
theorem q1692 : (Jvm.Cond.methodLink "TitheBarnLaw" (101 : Nat) ({ cls := "TitheBarnModel", name := "binOf", desc := "(II)I" } : Jvm.MethodName)) ∈ lw_all := lw_g (lw_at lw_m7 148 rfl) rfl
theorem q1700 : (Jvm.Cond.methodLink "TitheBarnLaw" (53 : Nat) ({ cls := "TitheBarnModel", name := "sell", desc := "(III)I" } : Jvm.MethodName)) ∈ lw_all := lw_g (lw_at lw_m7 156 rfl) rfl
theorem q1712 : (Jvm.Cond.methodLink "TitheBarnLaw" (57 : Nat) ({ cls := "TitheBarnModel", name := "settle", desc := "(II)I" } : Jvm.MethodName)) ∈ lw_all := lw_g (lw_at lw_m7 168 rfl) rfl
theorem q1720 : (Jvm.Cond.methodLink "TitheBarnLaw" (61 : Nat) ({ cls := "TitheBarnModel", name := "stop", desc := "(I)I" } : Jvm.MethodName)) ∈ lw_all := lw_g (lw_at lw_m7 176 rfl) rfl
theorem q1731 : (Jvm.Cond.methodLink "TitheBarnLaw" (65 : Nat) ({ cls := "TitheBarnModel", name := "cat", desc := "(I)I" } : Jvm.MethodName)) ∈ lw_all := lw_g (lw_at lw_m7 187 rfl) rfl
theorem q1739 : (Jvm.Cond.methodLink "TitheBarnLaw" (105 : Nat) ({ cls := "TitheBarnModel", name := "placeOf", desc := "(II)I" } : Jvm.MethodName)) ∈ lw_all := lw_g (lw_at lw_m7 195 rfl) rfl
theorem q1743 : (Jvm.Cond.methodLink "TitheBarnLaw" (69 : Nat) ({ cls := "TitheBarnModel", name := "pass", desc := "(I)I" } : Jvm.MethodName)) ∈ lw_all := lw_g (lw_at lw_m7 199 rfl) rfl
theorem q1776 : (Jvm.Cond.methodLink "TitheBarnLaw" (117 : Nat) ({ cls := "TitheBarnModel", name := "lasts", desc := "(I)I" } : Jvm.MethodName)) ∈ lw_all := lw_g (lw_at lw_m7 232 rfl) rfl
theorem q1780 : (Jvm.Cond.methodLink "TitheBarnLaw" (121 : Nat) ({ cls := "TitheBarnModel", name := "bestCat", desc := "(I)I" } : Jvm.MethodName)) ∈ lw_all := lw_g (lw_at lw_m7 236 rfl) rfl
theorem q1789 : (Jvm.Cond.methodLink "TitheBarnLaw" (125 : Nat) ({ cls := "TitheBarnModel", name := "ranked", desc := "(I)I" } : Jvm.MethodName)) ∈ lw_all := lw_g (lw_at lw_m8 5 rfl) rfl
theorem q1801 : (Jvm.Cond.methodLink "TitheBarnLaw" (85 : Nat) ({ cls := "TitheBarnModel", name := "parishOf", desc := "(II)I" } : Jvm.MethodName)) ∈ lw_all := lw_g (lw_at lw_m8 17 rfl) rfl
theorem q1809 : (Jvm.Cond.methodLink "TitheBarnLaw" (129 : Nat) ({ cls := "TitheBarnModel", name := "grain", desc := "(I)I" } : Jvm.MethodName)) ∈ lw_all := lw_g (lw_at lw_m8 25 rfl) rfl
theorem q1817 : (Jvm.Cond.methodLink "TitheBarnLaw" (133 : Nat) ({ cls := "TitheBarnModel", name := "grainAgain", desc := "()I" } : Jvm.MethodName)) ∈ lw_all := lw_g (lw_at lw_m8 33 rfl) rfl
theorem q1821 : (Jvm.Cond.methodLink "TitheBarnLaw" (138 : Nat) ({ cls := "TitheBarnModel", name := "share", desc := "(I)F" } : Jvm.MethodName)) ∈ lw_all := lw_g (lw_at lw_m8 37 rfl) rfl
theorem q1829 : (Jvm.Cond.methodLink "TitheBarnLaw" (143 : Nat) ({ cls := "TitheBarnModel", name := "meanRats", desc := "()D" } : Jvm.MethodName)) ∈ lw_all := lw_g (lw_at lw_m8 45 rfl) rfl
theorem q1838 : (Jvm.Cond.methodLink "TitheBarnLaw" (73 : Nat) ({ cls := "TitheBarnModel", name := "script", desc := "()I" } : Jvm.MethodName)) ∈ lw_all := lw_g (lw_at lw_m8 54 rfl) rfl
theorem q1878 : (Jvm.Cond.methodLink "TitheBarnLaw" (77 : Nat) ({ cls := "TitheBarnModel", name := "fault", desc := "()I" } : Jvm.MethodName)) ∈ lw_all := lw_g (lw_at lw_m8 94 rfl) rfl
theorem q1882 : (Jvm.Cond.methodLink "TitheBarnLaw" (147 : Nat) ({ cls := "TitheBarnModel", name := "describe", desc := "(I)I" } : Jvm.MethodName)) ∈ lw_all := lw_g (lw_at lw_m8 98 rfl) rfl
theorem q1894 : (Jvm.Cond.methodLink "TitheBarnLaw" (151 : Nat) ({ cls := "TitheBarnModel", name := "written", desc := "(I)I" } : Jvm.MethodName)) ∈ lw_all := lw_g (lw_at lw_m8 110 rfl) rfl
theorem q1898 : (Jvm.Cond.methodLink "TitheBarnLaw" (155 : Nat) ({ cls := "TitheBarnModel", name := "account", desc := "(I)I" } : Jvm.MethodName)) ∈ lw_all := lw_g (lw_at lw_m8 114 rfl) rfl
theorem q1208 : (Jvm.Cond.interfaceMethod "java/util/Iterator" "java/util/Iterator" "hasNext" "()Z") ∈ lw_tbl := lw_at lw_m5 144 rfl
theorem q1209 : (Jvm.Cond.declares ({ cls := "java/util/Iterator", name := "hasNext", desc := "()Z" } : Jvm.MethodName)) ∈ lw_tbl := lw_at lw_m5 145 rfl
theorem q1218 : (Jvm.Cond.interfaceMethod "java/util/Iterator" "java/util/Iterator" "next" "()Ljava/lang/Object;") ∈ lw_tbl := lw_at lw_m5 154 rfl
theorem q1219 : (Jvm.Cond.declares ({ cls := "java/util/Iterator", name := "next", desc := "()Ljava/lang/Object;" } : Jvm.MethodName)) ∈ lw_tbl := lw_at lw_m5 155 rfl
theorem q833 : (Jvm.Cond.sameMethod "[B" "java/lang/Object" "clone" "()Ljava/lang/Object;") ∈ lw_all := lw_g (lw_at lw_m4 9 rfl) rfl
theorem q836 : (Jvm.Cond.selects "[B" ({ cls := "[B", name := "clone", desc := "()Ljava/lang/Object;" } : Jvm.MethodName) ({ cls := "java/lang/Object", name := "clone", desc := "()Ljava/lang/Object;" } : Jvm.MethodName)) ∈ lw_all := lw_g (lw_at lw_m4 12 rfl) rfl
theorem q837 : (Jvm.Cond.castable "[B" "java/lang/Cloneable") ∈ lw_tbl := lw_at lw_m4 13 rfl
theorem q140 : (Jvm.Cond.initialized "java/lang/Number") ∈ lw_all := lw_g (lw_at lw_m1 36 rfl) rfl
