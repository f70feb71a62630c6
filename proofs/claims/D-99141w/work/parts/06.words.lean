/-! ===== the words of the tables, by their places (out of claim/names) ===== -/
set_option maxRecDepth 100000
theorem q164 : (Jvm.Cond.initialized "java/util/AbstractCollection") ∈ lw_all := lw_g (lw_at lw_m1 3 rfl) rfl
theorem q227 : (Jvm.Cond.instanceMethod ({ cls := "java/util/AbstractCollection", name := "<init>", desc := "()V" } : Jvm.MethodName)) ∈ lw_all := lw_g (lw_at lw_m1 66 rfl) rfl
theorem q228 : (Jvm.Cond.code ({ cls := "java/util/AbstractCollection", name := "<init>", desc := "()V" } : Jvm.MethodName) prog_46_method_1_code (1 : Nat) (Option.none : Option Jvm.ClassFile.FieldType)) ∈ lw_all := lw_g (lw_at lw_m1 67 rfl) rfl
theorem q229 : (Jvm.Cond.methodLink "java/util/AbstractCollection" (1 : Nat) ({ cls := "java/lang/Object", name := "<init>", desc := "()V" } : Jvm.MethodName)) ∈ lw_all := lw_g (lw_at lw_m1 68 rfl) rfl
theorem q165 : (Jvm.Cond.initialized "java/util/AbstractList") ∈ lw_all := lw_g (lw_at lw_m1 4 rfl) rfl
theorem q224 : (Jvm.Cond.instanceMethod ({ cls := "java/util/AbstractList", name := "<init>", desc := "()V" } : Jvm.MethodName)) ∈ lw_all := lw_g (lw_at lw_m1 63 rfl) rfl
theorem q225 : (Jvm.Cond.code ({ cls := "java/util/AbstractList", name := "<init>", desc := "()V" } : Jvm.MethodName) prog_47_method_1_code (1 : Nat) (Option.none : Option Jvm.ClassFile.FieldType)) ∈ lw_all := lw_g (lw_at lw_m1 64 rfl) rfl
theorem q226 : (Jvm.Cond.methodLink "java/util/AbstractList" (1 : Nat) ({ cls := "java/util/AbstractCollection", name := "<init>", desc := "()V" } : Jvm.MethodName)) ∈ lw_all := lw_g (lw_at lw_m1 65 rfl) rfl
theorem q236 : (Jvm.Cond.fieldLink "java/util/AbstractList" (7 : Nat) "java/util/AbstractList" "modCount" "I") ∈ lw_all := lw_g (lw_at lw_m1 75 rfl) rfl
theorem q244 : (Jvm.Cond.soleField "java/util/AbstractList" "modCount") ∈ lw_all := lw_g (lw_at lw_m1 83 rfl) rfl
theorem q180 : (Jvm.Cond.initialized "java/lang/StringLatin1") ∈ lw_all := lw_g (lw_at lw_m1 19 rfl) rfl
theorem q764 : (Jvm.Cond.static ({ cls := "java/lang/StringLatin1", name := "equals", desc := "([B[B)Z" } : Jvm.MethodName)) ∈ lw_all := lw_g (lw_at lw_m3 123 rfl) rfl
theorem q765 : (Jvm.Cond.code ({ cls := "java/lang/StringLatin1", name := "equals", desc := "([B[B)Z" } : Jvm.MethodName) prog_39_method_13_code (3 : Nat) (Option.some Jvm.ClassFile.FieldType.boolean)) ∈ lw_all := lw_g (lw_at lw_m3 124 rfl) rfl
theorem q801 : (Jvm.Cond.static ({ cls := "java/lang/StringLatin1", name := "hashCode", desc := "([B)I" } : Jvm.MethodName)) ∈ lw_all := lw_g (lw_at lw_m3 160 rfl) rfl
theorem q802 : (Jvm.Cond.code ({ cls := "java/lang/StringLatin1", name := "hashCode", desc := "([B)I" } : Jvm.MethodName) prog_39_method_21_code (1 : Nat) (Option.some Jvm.ClassFile.FieldType.int)) ∈ lw_all := lw_g (lw_at lw_m3 161 rfl) rfl
theorem q803 : (Jvm.Cond.methodLink "java/lang/StringLatin1" (84 : Nat) ({ cls := "jdk/internal/util/ArraysSupport", name := "vectorizedHashCode", desc := "(Ljava/lang/Object;IIII)I" } : Jvm.MethodName)) ∈ lw_all := lw_g (lw_at lw_m3 162 rfl) rfl
theorem q1240 : (Jvm.Cond.static ({ cls := "java/lang/StringLatin1", name := "canEncode", desc := "(C)Z" } : Jvm.MethodName)) ∈ lw_all := lw_g (lw_at lw_m5 119 rfl) rfl
theorem q1241 : (Jvm.Cond.code ({ cls := "java/lang/StringLatin1", name := "canEncode", desc := "(C)Z" } : Jvm.MethodName) prog_39_method_3_code (1 : Nat) (Option.some Jvm.ClassFile.FieldType.boolean)) ∈ lw_all := lw_g (lw_at lw_m5 120 rfl) rfl
theorem q1247 : (Jvm.Cond.static ({ cls := "java/lang/StringLatin1", name := "inflate", desc := "([BI[BII)V" } : Jvm.MethodName)) ∈ lw_all := lw_g (lw_at lw_m5 126 rfl) rfl
theorem q1248 : (Jvm.Cond.code ({ cls := "java/lang/StringLatin1", name := "inflate", desc := "([BI[BII)V" } : Jvm.MethodName) prog_39_method_50_code (5 : Nat) (Option.none : Option Jvm.ClassFile.FieldType)) ∈ lw_all := lw_g (lw_at lw_m5 127 rfl) rfl
theorem q1249 : (Jvm.Cond.methodLink "java/lang/StringLatin1" (240 : Nat) ({ cls := "java/lang/StringUTF16", name := "inflate", desc := "([BI[BII)V" } : Jvm.MethodName)) ∈ lw_all := lw_g (lw_at lw_m5 128 rfl) rfl
theorem q1345 : (Jvm.Cond.static ({ cls := "java/lang/StringLatin1", name := "charAt", desc := "([BI)C" } : Jvm.MethodName)) ∈ lw_all := lw_g (lw_at lw_m5 224 rfl) rfl
theorem q1346 : (Jvm.Cond.code ({ cls := "java/lang/StringLatin1", name := "charAt", desc := "([BI)C" } : Jvm.MethodName) prog_39_method_2_code (2 : Nat) (Option.some Jvm.ClassFile.FieldType.char)) ∈ lw_all := lw_g (lw_at lw_m5 225 rfl) rfl
theorem q1347 : (Jvm.Cond.methodLink "java/lang/StringLatin1" (9 : Nat) ({ cls := "java/lang/String", name := "checkIndex", desc := "(II)V" } : Jvm.MethodName)) ∈ lw_all := lw_g (lw_at lw_m5 226 rfl) rfl
theorem q181 : (Jvm.Cond.initialized "jdk/internal/util/ArraysSupport") ∈ lw_all := lw_g (lw_at lw_m1 20 rfl) rfl
theorem q804 : (Jvm.Cond.static ({ cls := "jdk/internal/util/ArraysSupport", name := "vectorizedHashCode", desc := "(Ljava/lang/Object;IIII)I" } : Jvm.MethodName)) ∈ lw_all := lw_g (lw_at lw_m3 163 rfl) rfl
theorem q805 : (Jvm.Cond.code ({ cls := "jdk/internal/util/ArraysSupport", name := "vectorizedHashCode", desc := "(Ljava/lang/Object;IIII)I" } : Jvm.MethodName) prog_56_method_4_code (5 : Nat) (Option.some Jvm.ClassFile.FieldType.int)) ∈ lw_all := lw_g (lw_at lw_m3 164 rfl) rfl
theorem q806 : (Jvm.Cond.classLink "jdk/internal/util/ArraysSupport" (60 : Nat) "[B") ∈ lw_all := lw_g (lw_at lw_m3 165 rfl) rfl
theorem q807 : (Jvm.Cond.methodLink "jdk/internal/util/ArraysSupport" (62 : Nat) ({ cls := "jdk/internal/util/ArraysSupport", name := "signedHashCode", desc := "(I[BII)I" } : Jvm.MethodName)) ∈ lw_all := lw_g (lw_at lw_m3 166 rfl) rfl
theorem q808 : (Jvm.Cond.static ({ cls := "jdk/internal/util/ArraysSupport", name := "signedHashCode", desc := "(I[BII)I" } : Jvm.MethodName)) ∈ lw_all := lw_g (lw_at lw_m3 167 rfl) rfl
theorem q809 : (Jvm.Cond.code ({ cls := "jdk/internal/util/ArraysSupport", name := "signedHashCode", desc := "(I[BII)I" } : Jvm.MethodName) prog_56_method_5_code (6 : Nat) (Option.some Jvm.ClassFile.FieldType.int)) ∈ lw_all := lw_g (lw_at lw_m3 168 rfl) rfl
theorem q810 : (Jvm.Cond.methodLink "jdk/internal/util/ArraysSupport" (66 : Nat) ({ cls := "jdk/internal/util/ArraysSupport", name := "utf16hashCode", desc := "(I[BII)I" } : Jvm.MethodName)) ∈ lw_all := lw_g (lw_at lw_m3 169 rfl) rfl
theorem q811 : (Jvm.Cond.static ({ cls := "jdk/internal/util/ArraysSupport", name := "utf16hashCode", desc := "(I[BII)I" } : Jvm.MethodName)) ∈ lw_all := lw_g (lw_at lw_m3 170 rfl) rfl
theorem q812 : (Jvm.Cond.code ({ cls := "jdk/internal/util/ArraysSupport", name := "utf16hashCode", desc := "(I[BII)I" } : Jvm.MethodName) prog_56_method_10_code (6 : Nat) (Option.some Jvm.ClassFile.FieldType.int)) ∈ lw_all := lw_g (lw_at lw_m3 171 rfl) rfl
theorem q813 : (Jvm.Cond.fieldLink "jdk/internal/util/ArraysSupport" (106 : Nat) "jdk/internal/util/ArraysSupport" "JLA" "Ljdk/internal/access/JavaLangAccess;") ∈ lw_all := lw_g (lw_at lw_m3 172 rfl) rfl
theorem q814 : (Jvm.Cond.laysStatic "jdk/internal/util/ArraysSupport" "JLA" "Ljdk/internal/access/JavaLangAccess;") ∈ lw_tbl := lw_at lw_m3 173 rfl
theorem q815 : (Jvm.Cond.interfaceEntry "jdk/internal/util/ArraysSupport" (110 : Nat)) ∈ lw_tbl := lw_at lw_m3 174 rfl
theorem q816 : (Jvm.Cond.methodLink "jdk/internal/util/ArraysSupport" (110 : Nat) ({ cls := "jdk/internal/access/JavaLangAccess", name := "getUTF16Char", desc := "([BI)C" } : Jvm.MethodName)) ∈ lw_all := lw_g (lw_at lw_m3 175 rfl) rfl
theorem q826 : (Jvm.Cond.classLink "jdk/internal/util/ArraysSupport" (69 : Nat) "[C") ∈ lw_all := lw_g (lw_at lw_m3 185 rfl) rfl
theorem q827 : (Jvm.Cond.methodLink "jdk/internal/util/ArraysSupport" (71 : Nat) ({ cls := "jdk/internal/util/ArraysSupport", name := "hashCode", desc := "(I[CII)I" } : Jvm.MethodName)) ∈ lw_all := lw_g (lw_at lw_m3 186 rfl) rfl
theorem q828 : (Jvm.Cond.static ({ cls := "jdk/internal/util/ArraysSupport", name := "hashCode", desc := "(I[CII)I" } : Jvm.MethodName)) ∈ lw_all := lw_g (lw_at lw_m3 187 rfl) rfl
theorem q829 : (Jvm.Cond.code ({ cls := "jdk/internal/util/ArraysSupport", name := "hashCode", desc := "(I[CII)I" } : Jvm.MethodName) prog_56_method_7_code (6 : Nat) (Option.some Jvm.ClassFile.FieldType.int)) ∈ lw_all := lw_g (lw_at lw_m3 188 rfl) rfl
theorem q830 : (Jvm.Cond.methodLink "jdk/internal/util/ArraysSupport" (75 : Nat) ({ cls := "jdk/internal/util/ArraysSupport", name := "hashCode", desc := "(I[BII)I" } : Jvm.MethodName)) ∈ lw_all := lw_g (lw_at lw_m3 189 rfl) rfl
theorem q831 : (Jvm.Cond.static ({ cls := "jdk/internal/util/ArraysSupport", name := "hashCode", desc := "(I[BII)I" } : Jvm.MethodName)) ∈ lw_all := lw_g (lw_at lw_m3 190 rfl) rfl
theorem q832 : (Jvm.Cond.code ({ cls := "jdk/internal/util/ArraysSupport", name := "hashCode", desc := "(I[BII)I" } : Jvm.MethodName) prog_56_method_6_code (6 : Nat) (Option.some Jvm.ClassFile.FieldType.int)) ∈ lw_all := lw_g (lw_at lw_m3 191 rfl) rfl
theorem q833 : (Jvm.Cond.classLink "jdk/internal/util/ArraysSupport" (77 : Nat) "[S") ∈ lw_all := lw_g (lw_at lw_m3 192 rfl) rfl
theorem q834 : (Jvm.Cond.methodLink "jdk/internal/util/ArraysSupport" (79 : Nat) ({ cls := "jdk/internal/util/ArraysSupport", name := "hashCode", desc := "(I[SII)I" } : Jvm.MethodName)) ∈ lw_all := lw_g (lw_at lw_m3 193 rfl) rfl
theorem q835 : (Jvm.Cond.static ({ cls := "jdk/internal/util/ArraysSupport", name := "hashCode", desc := "(I[SII)I" } : Jvm.MethodName)) ∈ lw_all := lw_g (lw_at lw_m3 194 rfl) rfl
theorem q836 : (Jvm.Cond.code ({ cls := "jdk/internal/util/ArraysSupport", name := "hashCode", desc := "(I[SII)I" } : Jvm.MethodName) prog_56_method_8_code (6 : Nat) (Option.some Jvm.ClassFile.FieldType.int)) ∈ lw_all := lw_g (lw_at lw_m3 195 rfl) rfl
theorem q837 : (Jvm.Cond.classLink "jdk/internal/util/ArraysSupport" (82 : Nat) "[I") ∈ lw_all := lw_g (lw_at lw_m3 196 rfl) rfl
theorem q838 : (Jvm.Cond.methodLink "jdk/internal/util/ArraysSupport" (84 : Nat) ({ cls := "jdk/internal/util/ArraysSupport", name := "hashCode", desc := "(I[III)I" } : Jvm.MethodName)) ∈ lw_all := lw_g (lw_at lw_m3 197 rfl) rfl
theorem q839 : (Jvm.Cond.static ({ cls := "jdk/internal/util/ArraysSupport", name := "hashCode", desc := "(I[III)I" } : Jvm.MethodName)) ∈ lw_all := lw_g (lw_at lw_m3 198 rfl) rfl
theorem q840 : (Jvm.Cond.code ({ cls := "jdk/internal/util/ArraysSupport", name := "hashCode", desc := "(I[III)I" } : Jvm.MethodName) prog_56_method_9_code (6 : Nat) (Option.some Jvm.ClassFile.FieldType.int)) ∈ lw_all := lw_g (lw_at lw_m3 199 rfl) rfl
theorem q953 : (Jvm.Cond.static ({ cls := "jdk/internal/util/ArraysSupport", name := "newLength", desc := "(III)I" } : Jvm.MethodName)) ∈ lw_all := lw_g (lw_at lw_m4 72 rfl) rfl
theorem q954 : (Jvm.Cond.code ({ cls := "jdk/internal/util/ArraysSupport", name := "newLength", desc := "(III)I" } : Jvm.MethodName) prog_56_method_27_code (4 : Nat) (Option.some Jvm.ClassFile.FieldType.int)) ∈ lw_all := lw_g (lw_at lw_m4 73 rfl) rfl
theorem q955 : (Jvm.Cond.methodLink "jdk/internal/util/ArraysSupport" (194 : Nat) ({ cls := "java/lang/Math", name := "max", desc := "(II)I" } : Jvm.MethodName)) ∈ lw_all := lw_g (lw_at lw_m4 74 rfl) rfl
theorem q958 : (Jvm.Cond.constant "jdk/internal/util/ArraysSupport" (200 : Nat) (2147483639 : Int32)) ∈ lw_all := lw_g (lw_at lw_m4 77 rfl) rfl
theorem q959 : (Jvm.Cond.methodLink "jdk/internal/util/ArraysSupport" (201 : Nat) ({ cls := "jdk/internal/util/ArraysSupport", name := "hugeLength", desc := "(II)I" } : Jvm.MethodName)) ∈ lw_all := lw_g (lw_at lw_m4 78 rfl) rfl
theorem q960 : (Jvm.Cond.static ({ cls := "jdk/internal/util/ArraysSupport", name := "hugeLength", desc := "(II)I" } : Jvm.MethodName)) ∈ lw_all := lw_g (lw_at lw_m4 79 rfl) rfl
theorem q961 : (Jvm.Cond.code ({ cls := "jdk/internal/util/ArraysSupport", name := "hugeLength", desc := "(II)I" } : Jvm.MethodName) prog_56_method_28_code (3 : Nat) (Option.some Jvm.ClassFile.FieldType.int)) ∈ lw_all := lw_g (lw_at lw_m4 80 rfl) rfl
theorem q184 : (Jvm.Cond.initialized "java/lang/Math") ∈ lw_all := lw_g (lw_at lw_m1 23 rfl) rfl
theorem q956 : (Jvm.Cond.static ({ cls := "java/lang/Math", name := "max", desc := "(II)I" } : Jvm.MethodName)) ∈ lw_all := lw_g (lw_at lw_m4 75 rfl) rfl
theorem q957 : (Jvm.Cond.code ({ cls := "java/lang/Math", name := "max", desc := "(II)I" } : Jvm.MethodName) prog_35_method_65_code (2 : Nat) (Option.some Jvm.ClassFile.FieldType.int)) ∈ lw_all := lw_g (lw_at lw_m4 76 rfl) rfl
theorem q1000 : (Jvm.Cond.static ({ cls := "java/lang/Math", name := "min", desc := "(II)I" } : Jvm.MethodName)) ∈ lw_all := lw_g (lw_at lw_m4 119 rfl) rfl
theorem q1001 : (Jvm.Cond.code ({ cls := "java/lang/Math", name := "min", desc := "(II)I" } : Jvm.MethodName) prog_35_method_69_code (2 : Nat) (Option.some Jvm.ClassFile.FieldType.int)) ∈ lw_all := lw_g (lw_at lw_m4 120 rfl) rfl
theorem q1308 : (Jvm.Cond.static ({ cls := "java/lang/Math", name := "abs", desc := "(I)I" } : Jvm.MethodName)) ∈ lw_all := lw_g (lw_at lw_m5 187 rfl) rfl
theorem q1309 : (Jvm.Cond.code ({ cls := "java/lang/Math", name := "abs", desc := "(I)I" } : Jvm.MethodName) prog_35_method_59_code (1 : Nat) (Option.some Jvm.ClassFile.FieldType.int)) ∈ lw_all := lw_g (lw_at lw_m5 188 rfl) rfl
theorem q1508 : (Jvm.Cond.static ({ cls := "java/lang/Math", name := "min", desc := "(JJ)J" } : Jvm.MethodName)) ∈ lw_all := lw_g (lw_at lw_m6 147 rfl) rfl
theorem q1509 : (Jvm.Cond.code ({ cls := "java/lang/Math", name := "min", desc := "(JJ)J" } : Jvm.MethodName) prog_35_method_70_code (4 : Nat) (Option.some Jvm.ClassFile.FieldType.long)) ∈ lw_all := lw_g (lw_at lw_m6 148 rfl) rfl
theorem q1511 : (Jvm.Cond.static ({ cls := "java/lang/Math", name := "max", desc := "(JJ)J" } : Jvm.MethodName)) ∈ lw_all := lw_g (lw_at lw_m6 150 rfl) rfl
theorem q1512 : (Jvm.Cond.code ({ cls := "java/lang/Math", name := "max", desc := "(JJ)J" } : Jvm.MethodName) prog_35_method_66_code (4 : Nat) (Option.some Jvm.ClassFile.FieldType.long)) ∈ lw_all := lw_g (lw_at lw_m6 151 rfl) rfl
theorem q1550 : (Jvm.Cond.static ({ cls := "java/lang/Math", name := "floorDiv", desc := "(JJ)J" } : Jvm.MethodName)) ∈ lw_all := lw_g (lw_at lw_m6 189 rfl) rfl
theorem q1551 : (Jvm.Cond.code ({ cls := "java/lang/Math", name := "floorDiv", desc := "(JJ)J" } : Jvm.MethodName) prog_35_method_49_code (6 : Nat) (Option.some Jvm.ClassFile.FieldType.long)) ∈ lw_all := lw_g (lw_at lw_m6 190 rfl) rfl
theorem q185 : (Jvm.Cond.initialized "java/util/Arrays") ∈ lw_all := lw_g (lw_at lw_m1 24 rfl) rfl
theorem q963 : (Jvm.Cond.static ({ cls := "java/util/Arrays", name := "copyOf", desc := "([Ljava/lang/Object;I)[Ljava/lang/Object;" } : Jvm.MethodName)) ∈ lw_all := lw_g (lw_at lw_m4 82 rfl) rfl
theorem q964 : (Jvm.Cond.code ({ cls := "java/util/Arrays", name := "copyOf", desc := "([Ljava/lang/Object;I)[Ljava/lang/Object;" } : Jvm.MethodName) prog_49_method_119_code (2 : Nat) (Option.some (Jvm.ClassFile.FieldType.array (Jvm.ClassFile.FieldType.object "java/lang/Object")))) ∈ lw_all := lw_g (lw_at lw_m4 83 rfl) rfl
theorem q965 : (Jvm.Cond.methodLink "java/util/Arrays" (86 : Nat) ({ cls := "java/lang/Object", name := "getClass", desc := "()Ljava/lang/Class;" } : Jvm.MethodName)) ∈ lw_all := lw_g (lw_at lw_m4 84 rfl) rfl
theorem q994 : (Jvm.Cond.methodLink "java/util/Arrays" (300 : Nat) ({ cls := "java/util/Arrays", name := "copyOf", desc := "([Ljava/lang/Object;ILjava/lang/Class;)[Ljava/lang/Object;" } : Jvm.MethodName)) ∈ lw_all := lw_g (lw_at lw_m4 113 rfl) rfl
theorem q995 : (Jvm.Cond.static ({ cls := "java/util/Arrays", name := "copyOf", desc := "([Ljava/lang/Object;ILjava/lang/Class;)[Ljava/lang/Object;" } : Jvm.MethodName)) ∈ lw_all := lw_g (lw_at lw_m4 114 rfl) rfl
theorem q996 : (Jvm.Cond.code ({ cls := "java/util/Arrays", name := "copyOf", desc := "([Ljava/lang/Object;ILjava/lang/Class;)[Ljava/lang/Object;" } : Jvm.MethodName) prog_49_method_120_code (4 : Nat) (Option.some (Jvm.ClassFile.FieldType.array (Jvm.ClassFile.FieldType.object "java/lang/Object")))) ∈ lw_all := lw_g (lw_at lw_m4 115 rfl) rfl
theorem q997 : (Jvm.Cond.classLink "java/util/Arrays" (110 : Nat) "[Ljava/lang/Object;") ∈ lw_all := lw_g (lw_at lw_m4 116 rfl) rfl
theorem q998 : (Jvm.Cond.classLink "java/util/Arrays" (2 : Nat) "java/lang/Object") ∈ lw_all := lw_g (lw_at lw_m4 117 rfl) rfl
theorem q999 : (Jvm.Cond.methodLink "java/util/Arrays" (304 : Nat) ({ cls := "java/lang/Math", name := "min", desc := "(II)I" } : Jvm.MethodName)) ∈ lw_all := lw_g (lw_at lw_m4 118 rfl) rfl
theorem q1002 : (Jvm.Cond.methodLink "java/util/Arrays" (150 : Nat) ({ cls := "java/lang/System", name := "arraycopy", desc := "(Ljava/lang/Object;ILjava/lang/Object;II)V" } : Jvm.MethodName)) ∈ lw_all := lw_g (lw_at lw_m4 121 rfl) rfl
theorem q1225 : (Jvm.Cond.static ({ cls := "java/util/Arrays", name := "copyOf", desc := "([BI)[B" } : Jvm.MethodName)) ∈ lw_all := lw_g (lw_at lw_m5 104 rfl) rfl
theorem q1226 : (Jvm.Cond.code ({ cls := "java/util/Arrays", name := "copyOf", desc := "([BI)[B" } : Jvm.MethodName) prog_49_method_121_code (3 : Nat) (Option.some (Jvm.ClassFile.FieldType.array Jvm.ClassFile.FieldType.byte))) ∈ lw_all := lw_g (lw_at lw_m5 105 rfl) rfl
theorem q1227 : (Jvm.Cond.methodLink "java/util/Arrays" (310 : Nat) ({ cls := "[B", name := "clone", desc := "()Ljava/lang/Object;" } : Jvm.MethodName)) ∈ lw_all := lw_g (lw_at lw_m5 106 rfl) rfl
theorem q1233 : (Jvm.Cond.classLink "java/util/Arrays" (311 : Nat) "[B") ∈ lw_all := lw_g (lw_at lw_m5 112 rfl) rfl
theorem q191 : (Jvm.Cond.initialized "java/lang/AbstractStringBuilder") ∈ lw_all := lw_g (lw_at lw_m1 30 rfl) rfl
theorem q1098 : (Jvm.Cond.instanceMethod ({ cls := "java/lang/AbstractStringBuilder", name := "<init>", desc := "(I)V" } : Jvm.MethodName)) ∈ lw_all := lw_g (lw_at lw_m4 217 rfl) rfl
theorem q1099 : (Jvm.Cond.code ({ cls := "java/lang/AbstractStringBuilder", name := "<init>", desc := "(I)V" } : Jvm.MethodName) prog_27_method_2_code (2 : Nat) (Option.none : Option Jvm.ClassFile.FieldType)) ∈ lw_all := lw_g (lw_at lw_m4 218 rfl) rfl
theorem q1100 : (Jvm.Cond.methodLink "java/lang/AbstractStringBuilder" (3 : Nat) ({ cls := "java/lang/Object", name := "<init>", desc := "()V" } : Jvm.MethodName)) ∈ lw_all := lw_g (lw_at lw_m4 219 rfl) rfl
theorem q1101 : (Jvm.Cond.fieldLink "java/lang/AbstractStringBuilder" (18 : Nat) "java/lang/String" "COMPACT_STRINGS" "Z") ∈ lw_all := lw_g (lw_at lw_m4 220 rfl) rfl
theorem q1102 : (Jvm.Cond.methodLink "java/lang/AbstractStringBuilder" (26 : Nat) ({ cls := "java/lang/StringUTF16", name := "newBytesFor", desc := "(I)[B" } : Jvm.MethodName)) ∈ lw_all := lw_g (lw_at lw_m4 221 rfl) rfl
theorem q1103 : (Jvm.Cond.fieldLink "java/lang/AbstractStringBuilder" (15 : Nat) "java/lang/AbstractStringBuilder" "value" "[B") ∈ lw_all := lw_g (lw_at lw_m4 222 rfl) rfl
theorem q1104 : (Jvm.Cond.fieldLink "java/lang/AbstractStringBuilder" (22 : Nat) "java/lang/AbstractStringBuilder" "coder" "B") ∈ lw_all := lw_g (lw_at lw_m4 223 rfl) rfl
theorem q1105 : (Jvm.Cond.fieldLink "java/lang/AbstractStringBuilder" (79 : Nat) "java/lang/AbstractStringBuilder" "count" "I") ∈ lw_all := lw_g (lw_at lw_m4 224 rfl) rfl
theorem q1107 : (Jvm.Cond.soleField "java/lang/AbstractStringBuilder" "value") ∈ lw_all := lw_g (lw_at lw_m4 226 rfl) rfl
theorem q1109 : (Jvm.Cond.soleField "java/lang/AbstractStringBuilder" "coder") ∈ lw_all := lw_g (lw_at lw_m4 228 rfl) rfl
theorem q1111 : (Jvm.Cond.soleField "java/lang/AbstractStringBuilder" "maybeLatin1") ∈ lw_all := lw_g (lw_at lw_m4 230 rfl) rfl
theorem q1113 : (Jvm.Cond.soleField "java/lang/AbstractStringBuilder" "count") ∈ lw_all := lw_g (lw_at lw_m4 232 rfl) rfl
theorem q1212 : (Jvm.Cond.instanceMethod ({ cls := "java/lang/AbstractStringBuilder", name := "append", desc := "(C)Ljava/lang/AbstractStringBuilder;" } : Jvm.MethodName)) ∈ lw_all := lw_g (lw_at lw_m5 91 rfl) rfl
theorem q1213 : (Jvm.Cond.code ({ cls := "java/lang/AbstractStringBuilder", name := "append", desc := "(C)Ljava/lang/AbstractStringBuilder;" } : Jvm.MethodName) prog_27_method_31_code (2 : Nat) (Option.some (Jvm.ClassFile.FieldType.object "java/lang/AbstractStringBuilder"))) ∈ lw_all := lw_g (lw_at lw_m5 92 rfl) rfl
theorem q1214 : (Jvm.Cond.methodLink "java/lang/AbstractStringBuilder" (100 : Nat) ({ cls := "java/lang/AbstractStringBuilder", name := "ensureCapacityInternal", desc := "(I)V" } : Jvm.MethodName)) ∈ lw_all := lw_g (lw_at lw_m5 93 rfl) rfl
theorem q1215 : (Jvm.Cond.privateMethod ({ cls := "java/lang/AbstractStringBuilder", name := "ensureCapacityInternal", desc := "(I)V" } : Jvm.MethodName)) ∈ lw_tbl := lw_at lw_m5 94 rfl
theorem q1216 : (Jvm.Cond.instanceMethod ({ cls := "java/lang/AbstractStringBuilder", name := "ensureCapacityInternal", desc := "(I)V" } : Jvm.MethodName)) ∈ lw_all := lw_g (lw_at lw_m5 95 rfl) rfl
theorem q1217 : (Jvm.Cond.code ({ cls := "java/lang/AbstractStringBuilder", name := "ensureCapacityInternal", desc := "(I)V" } : Jvm.MethodName) prog_27_method_9_code (3 : Nat) (Option.none : Option Jvm.ClassFile.FieldType)) ∈ lw_all := lw_g (lw_at lw_m5 96 rfl) rfl
theorem q1218 : (Jvm.Cond.methodLink "java/lang/AbstractStringBuilder" (104 : Nat) ({ cls := "java/lang/AbstractStringBuilder", name := "newCapacity", desc := "(I)I" } : Jvm.MethodName)) ∈ lw_all := lw_g (lw_at lw_m5 97 rfl) rfl
theorem q1219 : (Jvm.Cond.privateMethod ({ cls := "java/lang/AbstractStringBuilder", name := "newCapacity", desc := "(I)I" } : Jvm.MethodName)) ∈ lw_tbl := lw_at lw_m5 98 rfl
theorem q1220 : (Jvm.Cond.instanceMethod ({ cls := "java/lang/AbstractStringBuilder", name := "newCapacity", desc := "(I)I" } : Jvm.MethodName)) ∈ lw_all := lw_g (lw_at lw_m5 99 rfl) rfl
theorem q1221 : (Jvm.Cond.code ({ cls := "java/lang/AbstractStringBuilder", name := "newCapacity", desc := "(I)I" } : Jvm.MethodName) prog_27_method_10_code (6 : Nat) (Option.some Jvm.ClassFile.FieldType.int)) ∈ lw_all := lw_g (lw_at lw_m5 100 rfl) rfl
theorem q1222 : (Jvm.Cond.methodLink "java/lang/AbstractStringBuilder" (114 : Nat) ({ cls := "jdk/internal/util/ArraysSupport", name := "newLength", desc := "(III)I" } : Jvm.MethodName)) ∈ lw_all := lw_g (lw_at lw_m5 101 rfl) rfl
theorem q1223 : (Jvm.Cond.constant "java/lang/AbstractStringBuilder" (39 : Nat) (2147483647 : Int32)) ∈ lw_all := lw_g (lw_at lw_m5 102 rfl) rfl
theorem q1224 : (Jvm.Cond.methodLink "java/lang/AbstractStringBuilder" (108 : Nat) ({ cls := "java/util/Arrays", name := "copyOf", desc := "([BI)[B" } : Jvm.MethodName)) ∈ lw_all := lw_g (lw_at lw_m5 103 rfl) rfl
theorem q1234 : (Jvm.Cond.methodLink "java/lang/AbstractStringBuilder" (83 : Nat) ({ cls := "java/lang/AbstractStringBuilder", name := "isLatin1", desc := "()Z" } : Jvm.MethodName)) ∈ lw_all := lw_g (lw_at lw_m5 113 rfl) rfl
theorem q1235 : (Jvm.Cond.instanceMethod ({ cls := "java/lang/AbstractStringBuilder", name := "isLatin1", desc := "()Z" } : Jvm.MethodName)) ∈ lw_all := lw_g (lw_at lw_m5 114 rfl) rfl
theorem q1236 : (Jvm.Cond.sameMethod "java/lang/AbstractStringBuilder" "java/lang/AbstractStringBuilder" "isLatin1" "()Z") ∈ lw_all := lw_g (lw_at lw_m5 115 rfl) rfl
theorem q1238 : (Jvm.Cond.code ({ cls := "java/lang/AbstractStringBuilder", name := "isLatin1", desc := "()Z" } : Jvm.MethodName) prog_27_method_68_code (1 : Nat) (Option.some Jvm.ClassFile.FieldType.boolean)) ∈ lw_all := lw_g (lw_at lw_m5 117 rfl) rfl
theorem q1239 : (Jvm.Cond.methodLink "java/lang/AbstractStringBuilder" (191 : Nat) ({ cls := "java/lang/StringLatin1", name := "canEncode", desc := "(C)Z" } : Jvm.MethodName)) ∈ lw_all := lw_g (lw_at lw_m5 118 rfl) rfl
theorem q1242 : (Jvm.Cond.methodLink "java/lang/AbstractStringBuilder" (195 : Nat) ({ cls := "java/lang/AbstractStringBuilder", name := "inflate", desc := "()V" } : Jvm.MethodName)) ∈ lw_all := lw_g (lw_at lw_m5 121 rfl) rfl
theorem q1243 : (Jvm.Cond.privateMethod ({ cls := "java/lang/AbstractStringBuilder", name := "inflate", desc := "()V" } : Jvm.MethodName)) ∈ lw_tbl := lw_at lw_m5 122 rfl
theorem q1244 : (Jvm.Cond.instanceMethod ({ cls := "java/lang/AbstractStringBuilder", name := "inflate", desc := "()V" } : Jvm.MethodName)) ∈ lw_all := lw_g (lw_at lw_m5 123 rfl) rfl
theorem q1245 : (Jvm.Cond.code ({ cls := "java/lang/AbstractStringBuilder", name := "inflate", desc := "()V" } : Jvm.MethodName) prog_27_method_11_code (2 : Nat) (Option.none : Option Jvm.ClassFile.FieldType)) ∈ lw_all := lw_g (lw_at lw_m5 124 rfl) rfl
theorem q1246 : (Jvm.Cond.methodLink "java/lang/AbstractStringBuilder" (125 : Nat) ({ cls := "java/lang/StringLatin1", name := "inflate", desc := "([BI[BII)V" } : Jvm.MethodName)) ∈ lw_all := lw_g (lw_at lw_m5 125 rfl) rfl
theorem q1252 : (Jvm.Cond.methodLink "java/lang/AbstractStringBuilder" (197 : Nat) ({ cls := "java/lang/StringUTF16", name := "putCharSB", desc := "([BII)V" } : Jvm.MethodName)) ∈ lw_all := lw_g (lw_at lw_m5 131 rfl) rfl
theorem q1541 : (Jvm.Cond.instanceMethod ({ cls := "java/lang/AbstractStringBuilder", name := "charAt", desc := "(I)C" } : Jvm.MethodName)) ∈ lw_all := lw_g (lw_at lw_m6 180 rfl) rfl
theorem q1542 : (Jvm.Cond.code ({ cls := "java/lang/AbstractStringBuilder", name := "charAt", desc := "(I)C" } : Jvm.MethodName) prog_27_method_14_code (5 : Nat) (Option.some Jvm.ClassFile.FieldType.char)) ∈ lw_all := lw_g (lw_at lw_m6 181 rfl) rfl
theorem q1543 : (Jvm.Cond.methodLink "java/lang/AbstractStringBuilder" (138 : Nat) ({ cls := "java/lang/Math", name := "min", desc := "(II)I" } : Jvm.MethodName)) ∈ lw_all := lw_g (lw_at lw_m6 182 rfl) rfl
theorem q1544 : (Jvm.Cond.methodLink "java/lang/AbstractStringBuilder" (144 : Nat) ({ cls := "java/lang/String", name := "checkIndex", desc := "(II)V" } : Jvm.MethodName)) ∈ lw_all := lw_g (lw_at lw_m6 183 rfl) rfl
theorem q1545 : (Jvm.Cond.methodLink "java/lang/AbstractStringBuilder" (148 : Nat) ({ cls := "java/lang/StringUTF16", name := "getChar", desc := "([BI)C" } : Jvm.MethodName)) ∈ lw_all := lw_g (lw_at lw_m6 184 rfl) rfl
theorem q2787 : (Jvm.Cond.sameMethod "java/lang/AbstractStringBuilder" "java/lang/AbstractStringBuilder" "append" "(C)Ljava/lang/AbstractStringBuilder;") ∈ lw_all := lw_g (lw_at lw_m11 226 rfl) rfl
theorem q2788 : (Jvm.Cond.sameMethod "java/lang/AbstractStringBuilder" "java/lang/AbstractStringBuilder" "ensureCapacityInternal" "(I)V") ∈ lw_all := lw_g (lw_at lw_m11 227 rfl) rfl
theorem q2789 : (Jvm.Cond.sameMethod "java/lang/AbstractStringBuilder" "java/lang/AbstractStringBuilder" "newCapacity" "(I)I") ∈ lw_all := lw_g (lw_at lw_m11 228 rfl) rfl
theorem q2790 : (Jvm.Cond.sameMethod "java/lang/AbstractStringBuilder" "java/lang/AbstractStringBuilder" "inflate" "()V") ∈ lw_all := lw_g (lw_at lw_m11 229 rfl) rfl
theorem q2791 : (Jvm.Cond.sameMethod "java/lang/AbstractStringBuilder" "java/lang/AbstractStringBuilder" "charAt" "(I)C") ∈ lw_all := lw_g (lw_at lw_m11 230 rfl) rfl
theorem q192 : (Jvm.Cond.initialized "java/lang/StringBuilder") ∈ lw_all := lw_g (lw_at lw_m1 31 rfl) rfl
theorem q990 : (Jvm.Cond.selects "java/lang/StringBuilder" ({ cls := "java/lang/Object", name := "getClass", desc := "()Ljava/lang/Class;" } : Jvm.MethodName) ({ cls := "java/lang/Object", name := "getClass", desc := "()Ljava/lang/Class;" } : Jvm.MethodName)) ∈ lw_all := lw_g (lw_at lw_m4 109 rfl) rfl
theorem q1093 : (Jvm.Cond.instantiable "java/lang/StringBuilder" (4 : Nat)) ∈ lw_all := lw_g (lw_at lw_m4 212 rfl) rfl
theorem q1095 : (Jvm.Cond.instanceMethod ({ cls := "java/lang/StringBuilder", name := "<init>", desc := "()V" } : Jvm.MethodName)) ∈ lw_all := lw_g (lw_at lw_m4 214 rfl) rfl
theorem q1096 : (Jvm.Cond.code ({ cls := "java/lang/StringBuilder", name := "<init>", desc := "()V" } : Jvm.MethodName) prog_38_method_1_code (1 : Nat) (Option.none : Option Jvm.ClassFile.FieldType)) ∈ lw_all := lw_g (lw_at lw_m4 215 rfl) rfl
theorem q1097 : (Jvm.Cond.methodLink "java/lang/StringBuilder" (1 : Nat) ({ cls := "java/lang/AbstractStringBuilder", name := "<init>", desc := "(I)V" } : Jvm.MethodName)) ∈ lw_all := lw_g (lw_at lw_m4 216 rfl) rfl
theorem q1106 : (Jvm.Cond.lays "java/lang/StringBuilder" "java/lang/AbstractStringBuilder" "value" "[B") ∈ lw_all := lw_g (lw_at lw_m4 225 rfl) rfl
theorem q1108 : (Jvm.Cond.lays "java/lang/StringBuilder" "java/lang/AbstractStringBuilder" "coder" "B") ∈ lw_all := lw_g (lw_at lw_m4 227 rfl) rfl
theorem q1110 : (Jvm.Cond.lays "java/lang/StringBuilder" "java/lang/AbstractStringBuilder" "maybeLatin1" "Z") ∈ lw_all := lw_g (lw_at lw_m4 229 rfl) rfl
theorem q1112 : (Jvm.Cond.lays "java/lang/StringBuilder" "java/lang/AbstractStringBuilder" "count" "I") ∈ lw_all := lw_g (lw_at lw_m4 231 rfl) rfl
theorem q1114 : (Jvm.Cond.superclass "java/lang/StringBuilder" "java/lang/AbstractStringBuilder") ∈ lw_all := lw_g (lw_at lw_m4 233 rfl) rfl
theorem q1208 : (Jvm.Cond.instanceMethod ({ cls := "java/lang/StringBuilder", name := "append", desc := "(C)Ljava/lang/StringBuilder;" } : Jvm.MethodName)) ∈ lw_all := lw_g (lw_at lw_m5 87 rfl) rfl
theorem q1209 : (Jvm.Cond.selects "java/lang/StringBuilder" ({ cls := "java/lang/StringBuilder", name := "append", desc := "(C)Ljava/lang/StringBuilder;" } : Jvm.MethodName) ({ cls := "java/lang/StringBuilder", name := "append", desc := "(C)Ljava/lang/StringBuilder;" } : Jvm.MethodName)) ∈ lw_all := lw_g (lw_at lw_m5 88 rfl) rfl
theorem q1210 : (Jvm.Cond.code ({ cls := "java/lang/StringBuilder", name := "append", desc := "(C)Ljava/lang/StringBuilder;" } : Jvm.MethodName) prog_38_method_14_code (2 : Nat) (Option.some (Jvm.ClassFile.FieldType.object "java/lang/StringBuilder"))) ∈ lw_all := lw_g (lw_at lw_m5 89 rfl) rfl
theorem q1211 : (Jvm.Cond.methodLink "java/lang/StringBuilder" (50 : Nat) ({ cls := "java/lang/AbstractStringBuilder", name := "append", desc := "(C)Ljava/lang/AbstractStringBuilder;" } : Jvm.MethodName)) ∈ lw_all := lw_g (lw_at lw_m5 90 rfl) rfl
theorem q1237 : (Jvm.Cond.selects "java/lang/StringBuilder" ({ cls := "java/lang/AbstractStringBuilder", name := "isLatin1", desc := "()Z" } : Jvm.MethodName) ({ cls := "java/lang/AbstractStringBuilder", name := "isLatin1", desc := "()Z" } : Jvm.MethodName)) ∈ lw_all := lw_g (lw_at lw_m5 116 rfl) rfl
theorem q1537 : (Jvm.Cond.instanceMethod ({ cls := "java/lang/StringBuilder", name := "charAt", desc := "(I)C" } : Jvm.MethodName)) ∈ lw_all := lw_g (lw_at lw_m6 176 rfl) rfl
theorem q1538 : (Jvm.Cond.selects "java/lang/StringBuilder" ({ cls := "java/lang/StringBuilder", name := "charAt", desc := "(I)C" } : Jvm.MethodName) ({ cls := "java/lang/StringBuilder", name := "charAt", desc := "(I)C" } : Jvm.MethodName)) ∈ lw_all := lw_g (lw_at lw_m6 177 rfl) rfl
theorem q1539 : (Jvm.Cond.code ({ cls := "java/lang/StringBuilder", name := "charAt", desc := "(I)C" } : Jvm.MethodName) prog_38_method_88_code (2 : Nat) (Option.some Jvm.ClassFile.FieldType.char)) ∈ lw_all := lw_g (lw_at lw_m6 178 rfl) rfl
theorem q1540 : (Jvm.Cond.methodLink "java/lang/StringBuilder" (329 : Nat) ({ cls := "java/lang/AbstractStringBuilder", name := "charAt", desc := "(I)C" } : Jvm.MethodName)) ∈ lw_all := lw_g (lw_at lw_m6 179 rfl) rfl
theorem q2820 : (Jvm.Cond.castable "java/lang/StringBuilder" "java/lang/Object") ∈ lw_tbl := lw_at lw_m12 19 rfl
theorem q197 : (Jvm.Cond.initialized "java/lang/Integer") ∈ lw_all := lw_g (lw_at lw_m1 36 rfl) rfl
theorem q1312 : (Jvm.Cond.static ({ cls := "java/lang/Integer", name := "signum", desc := "(I)I" } : Jvm.MethodName)) ∈ lw_all := lw_g (lw_at lw_m5 191 rfl) rfl
theorem q1313 : (Jvm.Cond.code ({ cls := "java/lang/Integer", name := "signum", desc := "(I)I" } : Jvm.MethodName) prog_33_method_56_code (1 : Nat) (Option.some Jvm.ClassFile.FieldType.int)) ∈ lw_all := lw_g (lw_at lw_m5 192 rfl) rfl
theorem q210 : (Jvm.Cond.instanceMethod ({ cls := "java/lang/Object", name := "<init>", desc := "()V" } : Jvm.MethodName)) ∈ lw_all := lw_g (lw_at lw_m1 49 rfl) rfl
theorem q211 : (Jvm.Cond.code ({ cls := "java/lang/Object", name := "<init>", desc := "()V" } : Jvm.MethodName) object_method_1_code (1 : Nat) (Option.none : Option Jvm.ClassFile.FieldType)) ∈ lw_all := lw_g (lw_at lw_m1 50 rfl) rfl
theorem q966 : (Jvm.Cond.instanceMethod ({ cls := "java/lang/Object", name := "getClass", desc := "()Ljava/lang/Class;" } : Jvm.MethodName)) ∈ lw_all := lw_g (lw_at lw_m4 85 rfl) rfl
theorem q967 : (Jvm.Cond.sameMethod "java/lang/Object" "java/lang/Object" "getClass" "()Ljava/lang/Class;") ∈ lw_all := lw_g (lw_at lw_m4 86 rfl) rfl
theorem q993 : (Jvm.Cond.native ({ cls := "java/lang/Object", name := "getClass", desc := "()Ljava/lang/Class;" } : Jvm.MethodName)) ∈ lw_all := lw_g (lw_at lw_m4 112 rfl) rfl
theorem q1229 : (Jvm.Cond.native ({ cls := "java/lang/Object", name := "clone", desc := "()Ljava/lang/Object;" } : Jvm.MethodName)) ∈ lw_all := lw_g (lw_at lw_m5 108 rfl) rfl
theorem q1230 : (Jvm.Cond.instanceMethod ({ cls := "java/lang/Object", name := "clone", desc := "()Ljava/lang/Object;" } : Jvm.MethodName)) ∈ lw_all := lw_g (lw_at lw_m5 109 rfl) rfl
theorem q2792 : (Jvm.Cond.initialized "java/lang/Object") ∈ lw_all := lw_g (lw_at lw_m11 231 rfl) rfl
theorem q2833 : (Jvm.Cond.declares ({ cls := "java/lang/Object", name := "getClass", desc := "()Ljava/lang/Class;" } : Jvm.MethodName)) ∈ lw_tbl := lw_at lw_m12 32 rfl
theorem q819 : (Jvm.Cond.castable "java/lang/System$2" "jdk/internal/access/JavaLangAccess") ∈ lw_tbl := lw_at lw_m3 178 rfl
theorem q820 : (Jvm.Cond.selects "java/lang/System$2" ({ cls := "jdk/internal/access/JavaLangAccess", name := "getUTF16Char", desc := "([BI)C" } : Jvm.MethodName) ({ cls := "java/lang/System$2", name := "getUTF16Char", desc := "([BI)C" } : Jvm.MethodName)) ∈ lw_all := lw_g (lw_at lw_m3 179 rfl) rfl
theorem q821 : (Jvm.Cond.unhidden "java/lang/System$2" "getUTF16Char" "([BI)C") ∈ lw_tbl := lw_at lw_m3 180 rfl
theorem q822 : (Jvm.Cond.instanceMethod ({ cls := "java/lang/System$2", name := "getUTF16Char", desc := "([BI)C" } : Jvm.MethodName)) ∈ lw_all := lw_g (lw_at lw_m3 181 rfl) rfl
theorem q823 : (Jvm.Cond.publicMethod ({ cls := "java/lang/System$2", name := "getUTF16Char", desc := "([BI)C" } : Jvm.MethodName)) ∈ lw_tbl := lw_at lw_m3 182 rfl
theorem q824 : (Jvm.Cond.code ({ cls := "java/lang/System$2", name := "getUTF16Char", desc := "([BI)C" } : Jvm.MethodName) prog_42_method_45_code (3 : Nat) (Option.some Jvm.ClassFile.FieldType.char)) ∈ lw_all := lw_g (lw_at lw_m3 183 rfl) rfl
theorem q825 : (Jvm.Cond.methodLink "java/lang/System$2" (185 : Nat) ({ cls := "java/lang/StringUTF16", name := "getChar", desc := "([BI)C" } : Jvm.MethodName)) ∈ lw_all := lw_g (lw_at lw_m3 184 rfl) rfl
theorem q991 : (Jvm.Cond.selects "java/lang/System$2" ({ cls := "java/lang/Object", name := "getClass", desc := "()Ljava/lang/Class;" } : Jvm.MethodName) ({ cls := "java/lang/Object", name := "getClass", desc := "()Ljava/lang/Class;" } : Jvm.MethodName)) ∈ lw_all := lw_g (lw_at lw_m4 110 rfl) rfl
theorem q2815 : (Jvm.Cond.castable "java/lang/System$2" "java/lang/Object") ∈ lw_tbl := lw_at lw_m12 14 rfl
theorem q166 : (Jvm.Cond.initialized "java/util/ArrayList") ∈ lw_all := lw_g (lw_at lw_m1 5 rfl) rfl
theorem q219 : (Jvm.Cond.instantiable "java/util/ArrayList" (3 : Nat)) ∈ lw_all := lw_g (lw_at lw_m1 58 rfl) rfl
theorem q221 : (Jvm.Cond.instanceMethod ({ cls := "java/util/ArrayList", name := "<init>", desc := "(I)V" } : Jvm.MethodName)) ∈ lw_all := lw_g (lw_at lw_m1 60 rfl) rfl
theorem q222 : (Jvm.Cond.code ({ cls := "java/util/ArrayList", name := "<init>", desc := "(I)V" } : Jvm.MethodName) prog_48_method_1_code (2 : Nat) (Option.none : Option Jvm.ClassFile.FieldType)) ∈ lw_all := lw_g (lw_at lw_m1 61 rfl) rfl
theorem q223 : (Jvm.Cond.methodLink "java/util/ArrayList" (1 : Nat) ({ cls := "java/util/AbstractList", name := "<init>", desc := "()V" } : Jvm.MethodName)) ∈ lw_all := lw_g (lw_at lw_m1 62 rfl) rfl
theorem q230 : (Jvm.Cond.classLink "java/util/ArrayList" (7 : Nat) "java/lang/Object") ∈ lw_all := lw_g (lw_at lw_m1 69 rfl) rfl
theorem q232 : (Jvm.Cond.fieldLink "java/util/ArrayList" (15 : Nat) "java/util/ArrayList" "EMPTY_ELEMENTDATA" "[Ljava/lang/Object;") ∈ lw_all := lw_g (lw_at lw_m1 71 rfl) rfl
theorem q233 : (Jvm.Cond.laysStatic "java/util/ArrayList" "EMPTY_ELEMENTDATA" "[Ljava/lang/Object;") ∈ lw_tbl := lw_at lw_m1 72 rfl
theorem q234 : (Jvm.Cond.fieldLink "java/util/ArrayList" (9 : Nat) "java/util/ArrayList" "elementData" "[Ljava/lang/Object;") ∈ lw_all := lw_g (lw_at lw_m1 73 rfl) rfl
theorem q235 : (Jvm.Cond.fieldLink "java/util/ArrayList" (48 : Nat) "java/util/ArrayList" "size" "I") ∈ lw_all := lw_g (lw_at lw_m1 74 rfl) rfl
theorem q237 : (Jvm.Cond.fieldLink "java/util/ArrayList" (63 : Nat) "java/util/ArrayList" "modCount" "I") ∈ lw_all := lw_g (lw_at lw_m1 76 rfl) rfl
theorem q238 : (Jvm.Cond.sameField "java/util/ArrayList" "java/util/AbstractList" "modCount" "I") ∈ lw_all := lw_g (lw_at lw_m1 77 rfl) rfl
theorem q239 : (Jvm.Cond.lays "java/util/ArrayList" "java/util/ArrayList" "elementData" "[Ljava/lang/Object;") ∈ lw_all := lw_g (lw_at lw_m1 78 rfl) rfl
theorem q240 : (Jvm.Cond.soleField "java/util/ArrayList" "elementData") ∈ lw_all := lw_g (lw_at lw_m1 79 rfl) rfl
theorem q241 : (Jvm.Cond.lays "java/util/ArrayList" "java/util/ArrayList" "size" "I") ∈ lw_all := lw_g (lw_at lw_m1 80 rfl) rfl
theorem q242 : (Jvm.Cond.soleField "java/util/ArrayList" "size") ∈ lw_all := lw_g (lw_at lw_m1 81 rfl) rfl
theorem q243 : (Jvm.Cond.lays "java/util/ArrayList" "java/util/AbstractList" "modCount" "I") ∈ lw_all := lw_g (lw_at lw_m1 82 rfl) rfl
theorem q245 : (Jvm.Cond.superclass "java/util/ArrayList" "java/util/AbstractList") ∈ lw_all := lw_g (lw_at lw_m1 84 rfl) rfl
theorem q503 : (Jvm.Cond.castable "java/util/ArrayList" "java/util/List") ∈ lw_tbl := lw_at lw_m2 102 rfl
theorem q504 : (Jvm.Cond.selects "java/util/ArrayList" ({ cls := "java/util/List", name := "size", desc := "()I" } : Jvm.MethodName) ({ cls := "java/util/ArrayList", name := "size", desc := "()I" } : Jvm.MethodName)) ∈ lw_all := lw_g (lw_at lw_m2 103 rfl) rfl
theorem q505 : (Jvm.Cond.unhidden "java/util/ArrayList" "size" "()I") ∈ lw_tbl := lw_at lw_m2 104 rfl
theorem q506 : (Jvm.Cond.instanceMethod ({ cls := "java/util/ArrayList", name := "size", desc := "()I" } : Jvm.MethodName)) ∈ lw_all := lw_g (lw_at lw_m2 105 rfl) rfl
theorem q507 : (Jvm.Cond.publicMethod ({ cls := "java/util/ArrayList", name := "size", desc := "()I" } : Jvm.MethodName)) ∈ lw_tbl := lw_at lw_m2 106 rfl
theorem q508 : (Jvm.Cond.code ({ cls := "java/util/ArrayList", name := "size", desc := "()I" } : Jvm.MethodName) prog_48_method_8_code (1 : Nat) (Option.some Jvm.ClassFile.FieldType.int)) ∈ lw_all := lw_g (lw_at lw_m2 107 rfl) rfl
theorem q521 : (Jvm.Cond.selects "java/util/ArrayList" ({ cls := "java/util/List", name := "get", desc := "(I)Ljava/lang/Object;" } : Jvm.MethodName) ({ cls := "java/util/ArrayList", name := "get", desc := "(I)Ljava/lang/Object;" } : Jvm.MethodName)) ∈ lw_all := lw_g (lw_at lw_m2 120 rfl) rfl
theorem q522 : (Jvm.Cond.unhidden "java/util/ArrayList" "get" "(I)Ljava/lang/Object;") ∈ lw_tbl := lw_at lw_m2 121 rfl
theorem q523 : (Jvm.Cond.instanceMethod ({ cls := "java/util/ArrayList", name := "get", desc := "(I)Ljava/lang/Object;" } : Jvm.MethodName)) ∈ lw_all := lw_g (lw_at lw_m2 122 rfl) rfl
theorem q524 : (Jvm.Cond.publicMethod ({ cls := "java/util/ArrayList", name := "get", desc := "(I)Ljava/lang/Object;" } : Jvm.MethodName)) ∈ lw_tbl := lw_at lw_m2 123 rfl
theorem q525 : (Jvm.Cond.code ({ cls := "java/util/ArrayList", name := "get", desc := "(I)Ljava/lang/Object;" } : Jvm.MethodName) prog_48_method_20_code (2 : Nat) (Option.some (Jvm.ClassFile.FieldType.object "java/lang/Object"))) ∈ lw_all := lw_g (lw_at lw_m2 124 rfl) rfl
theorem q526 : (Jvm.Cond.methodLink "java/util/ArrayList" (118 : Nat) ({ cls := "java/util/Objects", name := "checkIndex", desc := "(II)I" } : Jvm.MethodName)) ∈ lw_all := lw_g (lw_at lw_m2 125 rfl) rfl
theorem q532 : (Jvm.Cond.methodLink "java/util/ArrayList" (123 : Nat) ({ cls := "java/util/ArrayList", name := "elementData", desc := "(I)Ljava/lang/Object;" } : Jvm.MethodName)) ∈ lw_all := lw_g (lw_at lw_m2 131 rfl) rfl
theorem q533 : (Jvm.Cond.instanceMethod ({ cls := "java/util/ArrayList", name := "elementData", desc := "(I)Ljava/lang/Object;" } : Jvm.MethodName)) ∈ lw_all := lw_g (lw_at lw_m2 132 rfl) rfl
theorem q534 : (Jvm.Cond.selects "java/util/ArrayList" ({ cls := "java/util/ArrayList", name := "elementData", desc := "(I)Ljava/lang/Object;" } : Jvm.MethodName) ({ cls := "java/util/ArrayList", name := "elementData", desc := "(I)Ljava/lang/Object;" } : Jvm.MethodName)) ∈ lw_all := lw_g (lw_at lw_m2 133 rfl) rfl
theorem q535 : (Jvm.Cond.code ({ cls := "java/util/ArrayList", name := "elementData", desc := "(I)Ljava/lang/Object;" } : Jvm.MethodName) prog_48_method_18_code (2 : Nat) (Option.some (Jvm.ClassFile.FieldType.object "java/lang/Object"))) ∈ lw_all := lw_g (lw_at lw_m2 134 rfl) rfl
theorem q933 : (Jvm.Cond.selects "java/util/ArrayList" ({ cls := "java/util/List", name := "add", desc := "(Ljava/lang/Object;)Z" } : Jvm.MethodName) ({ cls := "java/util/ArrayList", name := "add", desc := "(Ljava/lang/Object;)Z" } : Jvm.MethodName)) ∈ lw_all := lw_g (lw_at lw_m4 52 rfl) rfl
theorem q934 : (Jvm.Cond.unhidden "java/util/ArrayList" "add" "(Ljava/lang/Object;)Z") ∈ lw_tbl := lw_at lw_m4 53 rfl
theorem q935 : (Jvm.Cond.instanceMethod ({ cls := "java/util/ArrayList", name := "add", desc := "(Ljava/lang/Object;)Z" } : Jvm.MethodName)) ∈ lw_all := lw_g (lw_at lw_m4 54 rfl) rfl
theorem q936 : (Jvm.Cond.publicMethod ({ cls := "java/util/ArrayList", name := "add", desc := "(Ljava/lang/Object;)Z" } : Jvm.MethodName)) ∈ lw_tbl := lw_at lw_m4 55 rfl
theorem q937 : (Jvm.Cond.code ({ cls := "java/util/ArrayList", name := "add", desc := "(Ljava/lang/Object;)Z" } : Jvm.MethodName) prog_48_method_25_code (2 : Nat) (Option.some Jvm.ClassFile.FieldType.boolean)) ∈ lw_all := lw_g (lw_at lw_m4 56 rfl) rfl
theorem q938 : (Jvm.Cond.methodLink "java/util/ArrayList" (131 : Nat) ({ cls := "java/util/ArrayList", name := "add", desc := "(Ljava/lang/Object;[Ljava/lang/Object;I)V" } : Jvm.MethodName)) ∈ lw_all := lw_g (lw_at lw_m4 57 rfl) rfl
theorem q939 : (Jvm.Cond.privateMethod ({ cls := "java/util/ArrayList", name := "add", desc := "(Ljava/lang/Object;[Ljava/lang/Object;I)V" } : Jvm.MethodName)) ∈ lw_tbl := lw_at lw_m4 58 rfl
theorem q940 : (Jvm.Cond.instanceMethod ({ cls := "java/util/ArrayList", name := "add", desc := "(Ljava/lang/Object;[Ljava/lang/Object;I)V" } : Jvm.MethodName)) ∈ lw_all := lw_g (lw_at lw_m4 59 rfl) rfl
theorem q941 : (Jvm.Cond.code ({ cls := "java/util/ArrayList", name := "add", desc := "(Ljava/lang/Object;[Ljava/lang/Object;I)V" } : Jvm.MethodName) prog_48_method_24_code (4 : Nat) (Option.none : Option Jvm.ClassFile.FieldType)) ∈ lw_all := lw_g (lw_at lw_m4 60 rfl) rfl
theorem q942 : (Jvm.Cond.methodLink "java/util/ArrayList" (129 : Nat) ({ cls := "java/util/ArrayList", name := "grow", desc := "()[Ljava/lang/Object;" } : Jvm.MethodName)) ∈ lw_all := lw_g (lw_at lw_m4 61 rfl) rfl
theorem q943 : (Jvm.Cond.privateMethod ({ cls := "java/util/ArrayList", name := "grow", desc := "()[Ljava/lang/Object;" } : Jvm.MethodName)) ∈ lw_tbl := lw_at lw_m4 62 rfl
theorem q944 : (Jvm.Cond.instanceMethod ({ cls := "java/util/ArrayList", name := "grow", desc := "()[Ljava/lang/Object;" } : Jvm.MethodName)) ∈ lw_all := lw_g (lw_at lw_m4 63 rfl) rfl
theorem q945 : (Jvm.Cond.code ({ cls := "java/util/ArrayList", name := "grow", desc := "()[Ljava/lang/Object;" } : Jvm.MethodName) prog_48_method_7_code (1 : Nat) (Option.some (Jvm.ClassFile.FieldType.array (Jvm.ClassFile.FieldType.object "java/lang/Object")))) ∈ lw_all := lw_g (lw_at lw_m4 64 rfl) rfl
theorem q946 : (Jvm.Cond.methodLink "java/util/ArrayList" (69 : Nat) ({ cls := "java/util/ArrayList", name := "grow", desc := "(I)[Ljava/lang/Object;" } : Jvm.MethodName)) ∈ lw_all := lw_g (lw_at lw_m4 65 rfl) rfl
theorem q947 : (Jvm.Cond.privateMethod ({ cls := "java/util/ArrayList", name := "grow", desc := "(I)[Ljava/lang/Object;" } : Jvm.MethodName)) ∈ lw_tbl := lw_at lw_m4 66 rfl
theorem q948 : (Jvm.Cond.instanceMethod ({ cls := "java/util/ArrayList", name := "grow", desc := "(I)[Ljava/lang/Object;" } : Jvm.MethodName)) ∈ lw_all := lw_g (lw_at lw_m4 67 rfl) rfl
theorem q949 : (Jvm.Cond.code ({ cls := "java/util/ArrayList", name := "grow", desc := "(I)[Ljava/lang/Object;" } : Jvm.MethodName) prog_48_method_6_code (4 : Nat) (Option.some (Jvm.ClassFile.FieldType.array (Jvm.ClassFile.FieldType.object "java/lang/Object")))) ∈ lw_all := lw_g (lw_at lw_m4 68 rfl) rfl
theorem q950 : (Jvm.Cond.fieldLink "java/util/ArrayList" (39 : Nat) "java/util/ArrayList" "DEFAULTCAPACITY_EMPTY_ELEMENTDATA" "[Ljava/lang/Object;") ∈ lw_all := lw_g (lw_at lw_m4 69 rfl) rfl
theorem q951 : (Jvm.Cond.laysStatic "java/util/ArrayList" "DEFAULTCAPACITY_EMPTY_ELEMENTDATA" "[Ljava/lang/Object;") ∈ lw_tbl := lw_at lw_m4 70 rfl
theorem q952 : (Jvm.Cond.methodLink "java/util/ArrayList" (73 : Nat) ({ cls := "jdk/internal/util/ArraysSupport", name := "newLength", desc := "(III)I" } : Jvm.MethodName)) ∈ lw_all := lw_g (lw_at lw_m4 71 rfl) rfl
theorem q962 : (Jvm.Cond.methodLink "java/util/ArrayList" (66 : Nat) ({ cls := "java/util/Arrays", name := "copyOf", desc := "([Ljava/lang/Object;I)[Ljava/lang/Object;" } : Jvm.MethodName)) ∈ lw_all := lw_g (lw_at lw_m4 81 rfl) rfl
theorem q992 : (Jvm.Cond.selects "java/util/ArrayList" ({ cls := "java/lang/Object", name := "getClass", desc := "()Ljava/lang/Class;" } : Jvm.MethodName) ({ cls := "java/lang/Object", name := "getClass", desc := "()Ljava/lang/Class;" } : Jvm.MethodName)) ∈ lw_all := lw_g (lw_at lw_m4 111 rfl) rfl
theorem q1005 : (Jvm.Cond.methodLink "java/util/ArrayList" (79 : Nat) ({ cls := "java/lang/Math", name := "max", desc := "(II)I" } : Jvm.MethodName)) ∈ lw_all := lw_g (lw_at lw_m4 124 rfl) rfl
theorem q2810 : (Jvm.Cond.castable "java/util/ArrayList" "java/lang/Object") ∈ lw_tbl := lw_at lw_m12 9 rfl
theorem q168 : (Jvm.Cond.initialized "java/lang/Throwable") ∈ lw_all := lw_g (lw_at lw_m1 7 rfl) rfl
theorem q309 : (Jvm.Cond.declares ({ cls := "java/lang/Throwable", name := "<init>", desc := "()V" } : Jvm.MethodName)) ∈ lw_tbl := lw_at lw_m1 148 rfl
theorem q310 : (Jvm.Cond.declares ({ cls := "java/lang/Throwable", name := "<init>", desc := "(Ljava/lang/String;)V" } : Jvm.MethodName)) ∈ lw_tbl := lw_at lw_m1 149 rfl
theorem q314 : (Jvm.Cond.lays "java/lang/Throwable" "java/lang/Throwable" "cause" "Ljava/lang/Throwable;") ∈ lw_all := lw_g (lw_at lw_m1 153 rfl) rfl
theorem q316 : (Jvm.Cond.lays "java/lang/Throwable" "java/lang/Throwable" "stackTrace" "[Ljava/lang/StackTraceElement;") ∈ lw_all := lw_g (lw_at lw_m1 155 rfl) rfl
theorem q318 : (Jvm.Cond.lays "java/lang/Throwable" "java/lang/Throwable" "suppressedExceptions" "Ljava/util/List;") ∈ lw_all := lw_g (lw_at lw_m1 157 rfl) rfl
theorem q320 : (Jvm.Cond.lays "java/lang/Throwable" "java/lang/Throwable" "detailMessage" "Ljava/lang/String;") ∈ lw_all := lw_g (lw_at lw_m1 159 rfl) rfl
theorem q322 : (Jvm.Cond.lays "java/lang/Throwable" "java/lang/Throwable" "backtrace" "Ljava/lang/Object;") ∈ lw_all := lw_g (lw_at lw_m1 161 rfl) rfl
theorem q323 : (Jvm.Cond.fieldLink "java/lang/Throwable" (198 : Nat) "java/lang/Throwable" "backtrace" "Ljava/lang/Object;") ∈ lw_all := lw_g (lw_at lw_m1 162 rfl) rfl
theorem q324 : (Jvm.Cond.superclass "java/lang/Throwable" "java/lang/Object") ∈ lw_all := lw_g (lw_at lw_m1 163 rfl) rfl
theorem q325 : (Jvm.Cond.instanceMethod ({ cls := "java/lang/Throwable", name := "<init>", desc := "()V" } : Jvm.MethodName)) ∈ lw_all := lw_g (lw_at lw_m1 164 rfl) rfl
theorem q326 : (Jvm.Cond.code ({ cls := "java/lang/Throwable", name := "<init>", desc := "()V" } : Jvm.MethodName) prog_43_method_1_code (1 : Nat) (Option.none : Option Jvm.ClassFile.FieldType)) ∈ lw_all := lw_g (lw_at lw_m1 165 rfl) rfl
theorem q327 : (Jvm.Cond.methodLink "java/lang/Throwable" (1 : Nat) ({ cls := "java/lang/Object", name := "<init>", desc := "()V" } : Jvm.MethodName)) ∈ lw_all := lw_g (lw_at lw_m1 166 rfl) rfl
theorem q328 : (Jvm.Cond.fieldLink "java/lang/Throwable" (13 : Nat) "java/lang/Throwable" "UNASSIGNED_STACK" "[Ljava/lang/StackTraceElement;") ∈ lw_all := lw_g (lw_at lw_m1 167 rfl) rfl
theorem q329 : (Jvm.Cond.laysStatic "java/lang/Throwable" "UNASSIGNED_STACK" "[Ljava/lang/StackTraceElement;") ∈ lw_tbl := lw_at lw_m1 168 rfl
theorem q330 : (Jvm.Cond.fieldLink "java/lang/Throwable" (20 : Nat) "java/lang/Throwable" "SUPPRESSED_SENTINEL" "Ljava/util/List;") ∈ lw_all := lw_g (lw_at lw_m1 169 rfl) rfl
theorem q331 : (Jvm.Cond.laysStatic "java/lang/Throwable" "SUPPRESSED_SENTINEL" "Ljava/util/List;") ∈ lw_tbl := lw_at lw_m1 170 rfl
theorem q332 : (Jvm.Cond.methodLink "java/lang/Throwable" (27 : Nat) ({ cls := "java/lang/Throwable", name := "fillInStackTrace", desc := "()Ljava/lang/Throwable;" } : Jvm.MethodName)) ∈ lw_all := lw_g (lw_at lw_m1 171 rfl) rfl
theorem q333 : (Jvm.Cond.instanceMethod ({ cls := "java/lang/Throwable", name := "fillInStackTrace", desc := "()Ljava/lang/Throwable;" } : Jvm.MethodName)) ∈ lw_all := lw_g (lw_at lw_m1 172 rfl) rfl
theorem q334 : (Jvm.Cond.sameMethod "java/lang/Throwable" "java/lang/Throwable" "fillInStackTrace" "()Ljava/lang/Throwable;") ∈ lw_all := lw_g (lw_at lw_m1 173 rfl) rfl
theorem q335 : (Jvm.Cond.codeSync ({ cls := "java/lang/Throwable", name := "fillInStackTrace", desc := "()Ljava/lang/Throwable;" } : Jvm.MethodName) prog_43_method_18_code (1 : Nat) (Option.some (Jvm.ClassFile.FieldType.object "java/lang/Throwable"))) ∈ lw_all := lw_g (lw_at lw_m1 174 rfl) rfl
theorem q336 : (Jvm.Cond.methodLink "java/lang/Throwable" (202 : Nat) ({ cls := "java/lang/Throwable", name := "fillInStackTrace", desc := "(I)Ljava/lang/Throwable;" } : Jvm.MethodName)) ∈ lw_all := lw_g (lw_at lw_m1 175 rfl) rfl
theorem q337 : (Jvm.Cond.privateMethod ({ cls := "java/lang/Throwable", name := "fillInStackTrace", desc := "(I)Ljava/lang/Throwable;" } : Jvm.MethodName)) ∈ lw_tbl := lw_at lw_m1 176 rfl
theorem q338 : (Jvm.Cond.instanceMethod ({ cls := "java/lang/Throwable", name := "fillInStackTrace", desc := "(I)Ljava/lang/Throwable;" } : Jvm.MethodName)) ∈ lw_all := lw_g (lw_at lw_m1 177 rfl) rfl
theorem q339 : (Jvm.Cond.instantiable "java/lang/Throwable" (6 : Nat)) ∈ lw_all := lw_g (lw_at lw_m1 178 rfl) rfl
theorem q340 : (Jvm.Cond.native ({ cls := "java/lang/Throwable", name := "fillInStackTrace", desc := "(I)Ljava/lang/Throwable;" } : Jvm.MethodName)) ∈ lw_all := lw_g (lw_at lw_m1 179 rfl) rfl
theorem q351 : (Jvm.Cond.instanceMethod ({ cls := "java/lang/Throwable", name := "<init>", desc := "(Ljava/lang/String;Ljava/lang/Throwable;ZZ)V" } : Jvm.MethodName)) ∈ lw_all := lw_g (lw_at lw_m1 190 rfl) rfl
theorem q352 : (Jvm.Cond.code ({ cls := "java/lang/Throwable", name := "<init>", desc := "(Ljava/lang/String;Ljava/lang/Throwable;ZZ)V" } : Jvm.MethodName) prog_43_method_5_code (5 : Nat) (Option.none : Option Jvm.ClassFile.FieldType)) ∈ lw_all := lw_g (lw_at lw_m1 191 rfl) rfl
theorem q357 : (Jvm.Cond.fieldLink "java/lang/Throwable" (198 : Nat) "java/lang/Throwable" "backtrace" "Ljava/lang/Object;") ∈ lw_all := lw_g (lw_at lw_m1 196 rfl) rfl
theorem q358 : (Jvm.Cond.fieldLink "java/lang/Throwable" (31 : Nat) "java/lang/Throwable" "detailMessage" "Ljava/lang/String;") ∈ lw_all := lw_g (lw_at lw_m1 197 rfl) rfl
theorem q359 : (Jvm.Cond.fieldLink "java/lang/Throwable" (7 : Nat) "java/lang/Throwable" "cause" "Ljava/lang/Throwable;") ∈ lw_all := lw_g (lw_at lw_m1 198 rfl) rfl
theorem q360 : (Jvm.Cond.fieldLink "java/lang/Throwable" (17 : Nat) "java/lang/Throwable" "stackTrace" "[Ljava/lang/StackTraceElement;") ∈ lw_all := lw_g (lw_at lw_m1 199 rfl) rfl
theorem q361 : (Jvm.Cond.fieldLink "java/lang/Throwable" (24 : Nat) "java/lang/Throwable" "suppressedExceptions" "Ljava/util/List;") ∈ lw_all := lw_g (lw_at lw_m1 200 rfl) rfl
theorem q366 : (Jvm.Cond.soleField "java/lang/Throwable" "backtrace") ∈ lw_all := lw_g (lw_at lw_m1 205 rfl) rfl
theorem q367 : (Jvm.Cond.soleField "java/lang/Throwable" "detailMessage") ∈ lw_all := lw_g (lw_at lw_m1 206 rfl) rfl
theorem q368 : (Jvm.Cond.soleField "java/lang/Throwable" "cause") ∈ lw_all := lw_g (lw_at lw_m1 207 rfl) rfl
theorem q369 : (Jvm.Cond.soleField "java/lang/Throwable" "stackTrace") ∈ lw_all := lw_g (lw_at lw_m1 208 rfl) rfl
theorem q371 : (Jvm.Cond.soleField "java/lang/Throwable" "depth") ∈ lw_all := lw_g (lw_at lw_m1 210 rfl) rfl
theorem q372 : (Jvm.Cond.soleField "java/lang/Throwable" "suppressedExceptions") ∈ lw_all := lw_g (lw_at lw_m1 211 rfl) rfl
theorem q2786 : (Jvm.Cond.sameMethod "java/lang/Throwable" "java/lang/Throwable" "fillInStackTrace" "(I)Ljava/lang/Throwable;") ∈ lw_all := lw_g (lw_at lw_m11 225 rfl) rfl
theorem q2830 : (Jvm.Cond.castable "java/lang/Throwable" "java/lang/Object") ∈ lw_tbl := lw_at lw_m12 29 rfl
theorem q169 : (Jvm.Cond.initialized "java/lang/Exception") ∈ lw_all := lw_g (lw_at lw_m1 8 rfl) rfl
theorem q307 : (Jvm.Cond.declares ({ cls := "java/lang/Exception", name := "<init>", desc := "()V" } : Jvm.MethodName)) ∈ lw_tbl := lw_at lw_m1 146 rfl
theorem q308 : (Jvm.Cond.declares ({ cls := "java/lang/Exception", name := "<init>", desc := "(Ljava/lang/String;)V" } : Jvm.MethodName)) ∈ lw_tbl := lw_at lw_m1 147 rfl
theorem q348 : (Jvm.Cond.instanceMethod ({ cls := "java/lang/Exception", name := "<init>", desc := "(Ljava/lang/String;Ljava/lang/Throwable;ZZ)V" } : Jvm.MethodName)) ∈ lw_all := lw_g (lw_at lw_m1 187 rfl) rfl
theorem q349 : (Jvm.Cond.code ({ cls := "java/lang/Exception", name := "<init>", desc := "(Ljava/lang/String;Ljava/lang/Throwable;ZZ)V" } : Jvm.MethodName) prog_32_method_5_code (5 : Nat) (Option.none : Option Jvm.ClassFile.FieldType)) ∈ lw_all := lw_g (lw_at lw_m1 188 rfl) rfl
theorem q350 : (Jvm.Cond.methodLink "java/lang/Exception" (16 : Nat) ({ cls := "java/lang/Throwable", name := "<init>", desc := "(Ljava/lang/String;Ljava/lang/Throwable;ZZ)V" } : Jvm.MethodName)) ∈ lw_all := lw_g (lw_at lw_m1 189 rfl) rfl
theorem q170 : (Jvm.Cond.initialized "java/lang/RuntimeException") ∈ lw_all := lw_g (lw_at lw_m1 9 rfl) rfl
theorem q305 : (Jvm.Cond.declares ({ cls := "java/lang/RuntimeException", name := "<init>", desc := "()V" } : Jvm.MethodName)) ∈ lw_tbl := lw_at lw_m1 144 rfl
theorem q306 : (Jvm.Cond.declares ({ cls := "java/lang/RuntimeException", name := "<init>", desc := "(Ljava/lang/String;)V" } : Jvm.MethodName)) ∈ lw_tbl := lw_at lw_m1 145 rfl
theorem q345 : (Jvm.Cond.instanceMethod ({ cls := "java/lang/RuntimeException", name := "<init>", desc := "(Ljava/lang/String;Ljava/lang/Throwable;ZZ)V" } : Jvm.MethodName)) ∈ lw_all := lw_g (lw_at lw_m1 184 rfl) rfl
theorem q346 : (Jvm.Cond.code ({ cls := "java/lang/RuntimeException", name := "<init>", desc := "(Ljava/lang/String;Ljava/lang/Throwable;ZZ)V" } : Jvm.MethodName) prog_36_method_5_code (5 : Nat) (Option.none : Option Jvm.ClassFile.FieldType)) ∈ lw_all := lw_g (lw_at lw_m1 185 rfl) rfl
theorem q347 : (Jvm.Cond.methodLink "java/lang/RuntimeException" (16 : Nat) ({ cls := "java/lang/Exception", name := "<init>", desc := "(Ljava/lang/String;Ljava/lang/Throwable;ZZ)V" } : Jvm.MethodName)) ∈ lw_all := lw_g (lw_at lw_m1 186 rfl) rfl
theorem q175 : (Jvm.Cond.initialized "java/util/Objects") ∈ lw_all := lw_g (lw_at lw_m1 14 rfl) rfl
theorem q527 : (Jvm.Cond.static ({ cls := "java/util/Objects", name := "checkIndex", desc := "(II)I" } : Jvm.MethodName)) ∈ lw_all := lw_g (lw_at lw_m2 126 rfl) rfl
theorem q528 : (Jvm.Cond.code ({ cls := "java/util/Objects", name := "checkIndex", desc := "(II)I" } : Jvm.MethodName) prog_52_method_17_code (2 : Nat) (Option.some Jvm.ClassFile.FieldType.int)) ∈ lw_all := lw_g (lw_at lw_m2 127 rfl) rfl
theorem q529 : (Jvm.Cond.methodLink "java/util/Objects" (105 : Nat) ({ cls := "jdk/internal/util/Preconditions", name := "checkIndex", desc := "(IILjava/util/function/BiFunction;)I" } : Jvm.MethodName)) ∈ lw_all := lw_g (lw_at lw_m2 128 rfl) rfl
theorem q176 : (Jvm.Cond.initialized "jdk/internal/util/Preconditions") ∈ lw_all := lw_g (lw_at lw_m1 15 rfl) rfl
theorem q530 : (Jvm.Cond.static ({ cls := "jdk/internal/util/Preconditions", name := "checkIndex", desc := "(IILjava/util/function/BiFunction;)I" } : Jvm.MethodName)) ∈ lw_all := lw_g (lw_at lw_m2 129 rfl) rfl
theorem q531 : (Jvm.Cond.code ({ cls := "jdk/internal/util/Preconditions", name := "checkIndex", desc := "(IILjava/util/function/BiFunction;)I" } : Jvm.MethodName) prog_57_method_11_code (3 : Nat) (Option.some Jvm.ClassFile.FieldType.int)) ∈ lw_all := lw_g (lw_at lw_m2 130 rfl) rfl
theorem q737 : (Jvm.Cond.laysStatic "jdk/internal/util/Preconditions" "SIOOBE_FORMATTER" "Ljava/util/function/BiFunction;") ∈ lw_tbl := lw_at lw_m3 96 rfl
theorem q739 : (Jvm.Cond.static ({ cls := "jdk/internal/util/Preconditions", name := "checkFromIndexSize", desc := "(IIILjava/util/function/BiFunction;)I" } : Jvm.MethodName)) ∈ lw_all := lw_g (lw_at lw_m3 98 rfl) rfl
theorem q740 : (Jvm.Cond.code ({ cls := "jdk/internal/util/Preconditions", name := "checkFromIndexSize", desc := "(IIILjava/util/function/BiFunction;)I" } : Jvm.MethodName) prog_57_method_13_code (4 : Nat) (Option.some Jvm.ClassFile.FieldType.int)) ∈ lw_all := lw_g (lw_at lw_m3 99 rfl) rfl
theorem q178 : (Jvm.Cond.initialized "java/lang/String") ∈ lw_all := lw_g (lw_at lw_m1 17 rfl) rfl
theorem q682 : (Jvm.Cond.static ({ cls := "java/lang/String", name := "valueOf", desc := "([C)Ljava/lang/String;" } : Jvm.MethodName)) ∈ lw_all := lw_g (lw_at lw_m3 41 rfl) rfl
theorem q683 : (Jvm.Cond.code ({ cls := "java/lang/String", name := "valueOf", desc := "([C)Ljava/lang/String;" } : Jvm.MethodName) prog_37_method_134_code (1 : Nat) (Option.some (Jvm.ClassFile.FieldType.object "java/lang/String"))) ∈ lw_all := lw_g (lw_at lw_m3 42 rfl) rfl
theorem q684 : (Jvm.Cond.classLink "java/lang/String" (10 : Nat) "java/lang/String") ∈ lw_all := lw_g (lw_at lw_m3 43 rfl) rfl
theorem q685 : (Jvm.Cond.instantiable "java/lang/String" (4 : Nat)) ∈ lw_all := lw_g (lw_at lw_m3 44 rfl) rfl
theorem q686 : (Jvm.Cond.methodLink "java/lang/String" (1008 : Nat) ({ cls := "java/lang/String", name := "<init>", desc := "([C)V" } : Jvm.MethodName)) ∈ lw_all := lw_g (lw_at lw_m3 45 rfl) rfl
theorem q687 : (Jvm.Cond.instanceMethod ({ cls := "java/lang/String", name := "<init>", desc := "([C)V" } : Jvm.MethodName)) ∈ lw_all := lw_g (lw_at lw_m3 46 rfl) rfl
theorem q688 : (Jvm.Cond.code ({ cls := "java/lang/String", name := "<init>", desc := "([C)V" } : Jvm.MethodName) prog_37_method_3_code (2 : Nat) (Option.none : Option Jvm.ClassFile.FieldType)) ∈ lw_all := lw_g (lw_at lw_m3 47 rfl) rfl
theorem q689 : (Jvm.Cond.methodLink "java/lang/String" (27 : Nat) ({ cls := "java/lang/String", name := "<init>", desc := "([CIILjava/lang/Void;)V" } : Jvm.MethodName)) ∈ lw_all := lw_g (lw_at lw_m3 48 rfl) rfl
theorem q690 : (Jvm.Cond.instanceMethod ({ cls := "java/lang/String", name := "<init>", desc := "([CIILjava/lang/Void;)V" } : Jvm.MethodName)) ∈ lw_all := lw_g (lw_at lw_m3 49 rfl) rfl
theorem q691 : (Jvm.Cond.code ({ cls := "java/lang/String", name := "<init>", desc := "([CIILjava/lang/Void;)V" } : Jvm.MethodName) prog_37_method_149_code (6 : Nat) (Option.none : Option Jvm.ClassFile.FieldType)) ∈ lw_all := lw_g (lw_at lw_m3 50 rfl) rfl
theorem q692 : (Jvm.Cond.methodLink "java/lang/String" (1 : Nat) ({ cls := "java/lang/Object", name := "<init>", desc := "()V" } : Jvm.MethodName)) ∈ lw_all := lw_g (lw_at lw_m3 51 rfl) rfl
theorem q693 : (Jvm.Cond.stringRef "java/lang/String" (7 : Nat) "") ∈ lw_tbl := lw_at lw_m3 52 rfl
theorem q694 : (Jvm.Cond.fieldLink "java/lang/String" (38 : Nat) "java/lang/String" "COMPACT_STRINGS" "Z") ∈ lw_all := lw_g (lw_at lw_m3 53 rfl) rfl
theorem q695 : (Jvm.Cond.laysStatic "java/lang/String" "COMPACT_STRINGS" "Z") ∈ lw_tbl := lw_at lw_m3 54 rfl
theorem q696 : (Jvm.Cond.methodLink "java/lang/String" (177 : Nat) ({ cls := "java/lang/StringUTF16", name := "compress", desc := "([CII)[B" } : Jvm.MethodName)) ∈ lw_all := lw_g (lw_at lw_m3 55 rfl) rfl
theorem q734 : (Jvm.Cond.static ({ cls := "java/lang/String", name := "checkBoundsOffCount", desc := "(III)I" } : Jvm.MethodName)) ∈ lw_all := lw_g (lw_at lw_m3 93 rfl) rfl
theorem q735 : (Jvm.Cond.code ({ cls := "java/lang/String", name := "checkBoundsOffCount", desc := "(III)I" } : Jvm.MethodName) prog_37_method_157_code (3 : Nat) (Option.some Jvm.ClassFile.FieldType.int)) ∈ lw_all := lw_g (lw_at lw_m3 94 rfl) rfl
theorem q736 : (Jvm.Cond.fieldLink "java/lang/String" (1053 : Nat) "jdk/internal/util/Preconditions" "SIOOBE_FORMATTER" "Ljava/util/function/BiFunction;") ∈ lw_all := lw_g (lw_at lw_m3 95 rfl) rfl
theorem q738 : (Jvm.Cond.methodLink "java/lang/String" (1065 : Nat) ({ cls := "jdk/internal/util/Preconditions", name := "checkFromIndexSize", desc := "(IIILjava/util/function/BiFunction;)I" } : Jvm.MethodName)) ∈ lw_all := lw_g (lw_at lw_m3 97 rfl) rfl
theorem q741 : (Jvm.Cond.methodLink "java/lang/String" (47 : Nat) ({ cls := "java/lang/StringUTF16", name := "coderFromArrayLen", desc := "([BI)B" } : Jvm.MethodName)) ∈ lw_all := lw_g (lw_at lw_m3 100 rfl) rfl
theorem q744 : (Jvm.Cond.methodLink "java/lang/String" (180 : Nat) ({ cls := "java/lang/StringUTF16", name := "toBytes", desc := "([CII)[B" } : Jvm.MethodName)) ∈ lw_all := lw_g (lw_at lw_m3 103 rfl) rfl
theorem q745 : (Jvm.Cond.fieldLink "java/lang/String" (9 : Nat) "java/lang/String" "value" "[B") ∈ lw_all := lw_g (lw_at lw_m3 104 rfl) rfl
theorem q746 : (Jvm.Cond.fieldLink "java/lang/String" (15 : Nat) "java/lang/String" "coder" "B") ∈ lw_all := lw_g (lw_at lw_m3 105 rfl) rfl
theorem q747 : (Jvm.Cond.fieldLink "java/lang/String" (19 : Nat) "java/lang/String" "hash" "I") ∈ lw_all := lw_g (lw_at lw_m3 106 rfl) rfl
theorem q748 : (Jvm.Cond.fieldLink "java/lang/String" (23 : Nat) "java/lang/String" "hashIsZero" "Z") ∈ lw_all := lw_g (lw_at lw_m3 107 rfl) rfl
theorem q749 : (Jvm.Cond.laysFinal "java/lang/String" "java/lang/String" "value" "[B") ∈ lw_all := lw_g (lw_at lw_m3 108 rfl) rfl
theorem q750 : (Jvm.Cond.soleField "java/lang/String" "value") ∈ lw_all := lw_g (lw_at lw_m3 109 rfl) rfl
theorem q751 : (Jvm.Cond.laysFinal "java/lang/String" "java/lang/String" "coder" "B") ∈ lw_all := lw_g (lw_at lw_m3 110 rfl) rfl
theorem q752 : (Jvm.Cond.soleField "java/lang/String" "coder") ∈ lw_all := lw_g (lw_at lw_m3 111 rfl) rfl
theorem q753 : (Jvm.Cond.lays "java/lang/String" "java/lang/String" "hash" "I") ∈ lw_all := lw_g (lw_at lw_m3 112 rfl) rfl
theorem q754 : (Jvm.Cond.soleField "java/lang/String" "hash") ∈ lw_all := lw_g (lw_at lw_m3 113 rfl) rfl
theorem q755 : (Jvm.Cond.lays "java/lang/String" "java/lang/String" "hashIsZero" "Z") ∈ lw_all := lw_g (lw_at lw_m3 114 rfl) rfl
theorem q756 : (Jvm.Cond.soleField "java/lang/String" "hashIsZero") ∈ lw_all := lw_g (lw_at lw_m3 115 rfl) rfl
theorem q757 : (Jvm.Cond.superclass "java/lang/String" "java/lang/Object") ∈ lw_all := lw_g (lw_at lw_m3 116 rfl) rfl
theorem q760 : (Jvm.Cond.instanceMethod ({ cls := "java/lang/String", name := "equals", desc := "(Ljava/lang/Object;)Z" } : Jvm.MethodName)) ∈ lw_all := lw_g (lw_at lw_m3 119 rfl) rfl
theorem q761 : (Jvm.Cond.selects "java/lang/String" ({ cls := "java/lang/String", name := "equals", desc := "(Ljava/lang/Object;)Z" } : Jvm.MethodName) ({ cls := "java/lang/String", name := "equals", desc := "(Ljava/lang/Object;)Z" } : Jvm.MethodName)) ∈ lw_all := lw_g (lw_at lw_m3 120 rfl) rfl
theorem q762 : (Jvm.Cond.code ({ cls := "java/lang/String", name := "equals", desc := "(Ljava/lang/Object;)Z" } : Jvm.MethodName) prog_37_method_66_code (3 : Nat) (Option.some Jvm.ClassFile.FieldType.boolean)) ∈ lw_all := lw_g (lw_at lw_m3 121 rfl) rfl
theorem q763 : (Jvm.Cond.methodLink "java/lang/String" (541 : Nat) ({ cls := "java/lang/StringLatin1", name := "equals", desc := "([B[B)Z" } : Jvm.MethodName)) ∈ lw_all := lw_g (lw_at lw_m3 122 rfl) rfl
theorem q793 : (Jvm.Cond.instanceMethod ({ cls := "java/lang/String", name := "hashCode", desc := "()I" } : Jvm.MethodName)) ∈ lw_all := lw_g (lw_at lw_m3 152 rfl) rfl
theorem q794 : (Jvm.Cond.selects "java/lang/String" ({ cls := "java/lang/String", name := "hashCode", desc := "()I" } : Jvm.MethodName) ({ cls := "java/lang/String", name := "hashCode", desc := "()I" } : Jvm.MethodName)) ∈ lw_all := lw_g (lw_at lw_m3 153 rfl) rfl
theorem q795 : (Jvm.Cond.code ({ cls := "java/lang/String", name := "hashCode", desc := "()I" } : Jvm.MethodName) prog_37_method_78_code (2 : Nat) (Option.some Jvm.ClassFile.FieldType.int)) ∈ lw_all := lw_g (lw_at lw_m3 154 rfl) rfl
theorem q796 : (Jvm.Cond.methodLink "java/lang/String" (492 : Nat) ({ cls := "java/lang/String", name := "isLatin1", desc := "()Z" } : Jvm.MethodName)) ∈ lw_all := lw_g (lw_at lw_m3 155 rfl) rfl
theorem q797 : (Jvm.Cond.instanceMethod ({ cls := "java/lang/String", name := "isLatin1", desc := "()Z" } : Jvm.MethodName)) ∈ lw_all := lw_g (lw_at lw_m3 156 rfl) rfl
theorem q798 : (Jvm.Cond.selects "java/lang/String" ({ cls := "java/lang/String", name := "isLatin1", desc := "()Z" } : Jvm.MethodName) ({ cls := "java/lang/String", name := "isLatin1", desc := "()Z" } : Jvm.MethodName)) ∈ lw_all := lw_g (lw_at lw_m3 157 rfl) rfl
theorem q799 : (Jvm.Cond.code ({ cls := "java/lang/String", name := "isLatin1", desc := "()Z" } : Jvm.MethodName) prog_37_method_154_code (1 : Nat) (Option.some Jvm.ClassFile.FieldType.boolean)) ∈ lw_all := lw_g (lw_at lw_m3 158 rfl) rfl
theorem q800 : (Jvm.Cond.methodLink "java/lang/String" (628 : Nat) ({ cls := "java/lang/StringLatin1", name := "hashCode", desc := "([B)I" } : Jvm.MethodName)) ∈ lw_all := lw_g (lw_at lw_m3 159 rfl) rfl
theorem q841 : (Jvm.Cond.methodLink "java/lang/String" (632 : Nat) ({ cls := "java/lang/StringUTF16", name := "hashCode", desc := "([B)I" } : Jvm.MethodName)) ∈ lw_all := lw_g (lw_at lw_m3 200 rfl) rfl
theorem q868 : (Jvm.Cond.instanceMethod ({ cls := "java/lang/String", name := "length", desc := "()I" } : Jvm.MethodName)) ∈ lw_all := lw_g (lw_at lw_m3 227 rfl) rfl
theorem q869 : (Jvm.Cond.selects "java/lang/String" ({ cls := "java/lang/String", name := "length", desc := "()I" } : Jvm.MethodName) ({ cls := "java/lang/String", name := "length", desc := "()I" } : Jvm.MethodName)) ∈ lw_all := lw_g (lw_at lw_m3 228 rfl) rfl
theorem q870 : (Jvm.Cond.code ({ cls := "java/lang/String", name := "length", desc := "()I" } : Jvm.MethodName) prog_37_method_54_code (1 : Nat) (Option.some Jvm.ClassFile.FieldType.int)) ∈ lw_all := lw_g (lw_at lw_m3 229 rfl) rfl
theorem q871 : (Jvm.Cond.methodLink "java/lang/String" (335 : Nat) ({ cls := "java/lang/String", name := "coder", desc := "()B" } : Jvm.MethodName)) ∈ lw_all := lw_g (lw_at lw_m3 230 rfl) rfl
theorem q872 : (Jvm.Cond.instanceMethod ({ cls := "java/lang/String", name := "coder", desc := "()B" } : Jvm.MethodName)) ∈ lw_all := lw_g (lw_at lw_m3 231 rfl) rfl
theorem q873 : (Jvm.Cond.selects "java/lang/String" ({ cls := "java/lang/String", name := "coder", desc := "()B" } : Jvm.MethodName) ({ cls := "java/lang/String", name := "coder", desc := "()B" } : Jvm.MethodName)) ∈ lw_all := lw_g (lw_at lw_m3 232 rfl) rfl
theorem q874 : (Jvm.Cond.code ({ cls := "java/lang/String", name := "coder", desc := "()B" } : Jvm.MethodName) prog_37_method_152_code (1 : Nat) (Option.some Jvm.ClassFile.FieldType.byte)) ∈ lw_all := lw_g (lw_at lw_m3 233 rfl) rfl
theorem q989 : (Jvm.Cond.selects "java/lang/String" ({ cls := "java/lang/Object", name := "getClass", desc := "()Ljava/lang/Class;" } : Jvm.MethodName) ({ cls := "java/lang/Object", name := "getClass", desc := "()Ljava/lang/Class;" } : Jvm.MethodName)) ∈ lw_all := lw_g (lw_at lw_m4 108 rfl) rfl
theorem q1259 : (Jvm.Cond.static ({ cls := "java/lang/String", name := "checkIndex", desc := "(II)V" } : Jvm.MethodName)) ∈ lw_all := lw_g (lw_at lw_m5 138 rfl) rfl
theorem q1260 : (Jvm.Cond.code ({ cls := "java/lang/String", name := "checkIndex", desc := "(II)V" } : Jvm.MethodName) prog_37_method_155_code (2 : Nat) (Option.none : Option Jvm.ClassFile.FieldType)) ∈ lw_all := lw_g (lw_at lw_m5 139 rfl) rfl
theorem q1261 : (Jvm.Cond.methodLink "java/lang/String" (1059 : Nat) ({ cls := "jdk/internal/util/Preconditions", name := "checkIndex", desc := "(IILjava/util/function/BiFunction;)I" } : Jvm.MethodName)) ∈ lw_all := lw_g (lw_at lw_m5 140 rfl) rfl
theorem q1341 : (Jvm.Cond.instanceMethod ({ cls := "java/lang/String", name := "charAt", desc := "(I)C" } : Jvm.MethodName)) ∈ lw_all := lw_g (lw_at lw_m5 220 rfl) rfl
theorem q1342 : (Jvm.Cond.selects "java/lang/String" ({ cls := "java/lang/String", name := "charAt", desc := "(I)C" } : Jvm.MethodName) ({ cls := "java/lang/String", name := "charAt", desc := "(I)C" } : Jvm.MethodName)) ∈ lw_all := lw_g (lw_at lw_m5 221 rfl) rfl
theorem q1343 : (Jvm.Cond.code ({ cls := "java/lang/String", name := "charAt", desc := "(I)C" } : Jvm.MethodName) prog_37_method_56_code (2 : Nat) (Option.some Jvm.ClassFile.FieldType.char)) ∈ lw_all := lw_g (lw_at lw_m5 222 rfl) rfl
theorem q1344 : (Jvm.Cond.methodLink "java/lang/String" (495 : Nat) ({ cls := "java/lang/StringLatin1", name := "charAt", desc := "([BI)C" } : Jvm.MethodName)) ∈ lw_all := lw_g (lw_at lw_m5 223 rfl) rfl
theorem q1348 : (Jvm.Cond.methodLink "java/lang/String" (498 : Nat) ({ cls := "java/lang/StringUTF16", name := "charAt", desc := "([BI)C" } : Jvm.MethodName)) ∈ lw_all := lw_g (lw_at lw_m5 227 rfl) rfl
theorem q2807 : (Jvm.Cond.castable "java/lang/String" "java/lang/Object") ∈ lw_tbl := lw_at lw_m12 6 rfl
theorem q179 : (Jvm.Cond.initialized "java/lang/StringUTF16") ∈ lw_all := lw_g (lw_at lw_m1 18 rfl) rfl
theorem q697 : (Jvm.Cond.static ({ cls := "java/lang/StringUTF16", name := "compress", desc := "([CII)[B" } : Jvm.MethodName)) ∈ lw_all := lw_g (lw_at lw_m3 56 rfl) rfl
theorem q698 : (Jvm.Cond.code ({ cls := "java/lang/StringUTF16", name := "compress", desc := "([CII)[B" } : Jvm.MethodName) prog_40_method_16_code (6 : Nat) (Option.some (Jvm.ClassFile.FieldType.array Jvm.ClassFile.FieldType.byte))) ∈ lw_all := lw_g (lw_at lw_m3 57 rfl) rfl
theorem q699 : (Jvm.Cond.methodLink "java/lang/StringUTF16" (115 : Nat) ({ cls := "java/lang/StringUTF16", name := "compress", desc := "([CI[BII)I" } : Jvm.MethodName)) ∈ lw_all := lw_g (lw_at lw_m3 58 rfl) rfl
theorem q700 : (Jvm.Cond.static ({ cls := "java/lang/StringUTF16", name := "compress", desc := "([CI[BII)I" } : Jvm.MethodName)) ∈ lw_all := lw_g (lw_at lw_m3 59 rfl) rfl
theorem q701 : (Jvm.Cond.code ({ cls := "java/lang/StringUTF16", name := "compress", desc := "([CI[BII)I" } : Jvm.MethodName) prog_40_method_21_code (7 : Nat) (Option.some Jvm.ClassFile.FieldType.int)) ∈ lw_all := lw_g (lw_at lw_m3 60 rfl) rfl
theorem q702 : (Jvm.Cond.methodLink "java/lang/StringUTF16" (119 : Nat) ({ cls := "java/lang/StringUTF16", name := "toBytes", desc := "([CII)[B" } : Jvm.MethodName)) ∈ lw_all := lw_g (lw_at lw_m3 61 rfl) rfl
theorem q703 : (Jvm.Cond.static ({ cls := "java/lang/StringUTF16", name := "toBytes", desc := "([CII)[B" } : Jvm.MethodName)) ∈ lw_all := lw_g (lw_at lw_m3 62 rfl) rfl
theorem q704 : (Jvm.Cond.code ({ cls := "java/lang/StringUTF16", name := "toBytes", desc := "([CII)[B" } : Jvm.MethodName) prog_40_method_14_code (5 : Nat) (Option.some (Jvm.ClassFile.FieldType.array Jvm.ClassFile.FieldType.byte))) ∈ lw_all := lw_g (lw_at lw_m3 63 rfl) rfl
theorem q705 : (Jvm.Cond.methodLink "java/lang/StringUTF16" (107 : Nat) ({ cls := "java/lang/StringUTF16", name := "newBytesFor", desc := "(I)[B" } : Jvm.MethodName)) ∈ lw_all := lw_g (lw_at lw_m3 64 rfl) rfl
theorem q706 : (Jvm.Cond.static ({ cls := "java/lang/StringUTF16", name := "newBytesFor", desc := "(I)[B" } : Jvm.MethodName)) ∈ lw_all := lw_g (lw_at lw_m3 65 rfl) rfl
theorem q707 : (Jvm.Cond.code ({ cls := "java/lang/StringUTF16", name := "newBytesFor", desc := "(I)[B" } : Jvm.MethodName) prog_40_method_2_code (1 : Nat) (Option.some (Jvm.ClassFile.FieldType.array Jvm.ClassFile.FieldType.byte))) ∈ lw_all := lw_g (lw_at lw_m3 66 rfl) rfl
theorem q708 : (Jvm.Cond.methodLink "java/lang/StringUTF16" (11 : Nat) ({ cls := "java/lang/StringUTF16", name := "newBytesLength", desc := "(I)I" } : Jvm.MethodName)) ∈ lw_all := lw_g (lw_at lw_m3 67 rfl) rfl
theorem q709 : (Jvm.Cond.static ({ cls := "java/lang/StringUTF16", name := "newBytesLength", desc := "(I)I" } : Jvm.MethodName)) ∈ lw_all := lw_g (lw_at lw_m3 68 rfl) rfl
theorem q710 : (Jvm.Cond.code ({ cls := "java/lang/StringUTF16", name := "newBytesLength", desc := "(I)I" } : Jvm.MethodName) prog_40_method_3_code (1 : Nat) (Option.some Jvm.ClassFile.FieldType.int)) ∈ lw_all := lw_g (lw_at lw_m3 69 rfl) rfl
theorem q711 : (Jvm.Cond.constant "java/lang/StringUTF16" (20 : Nat) (1073741823 : Int32)) ∈ lw_all := lw_g (lw_at lw_m3 70 rfl) rfl
theorem q712 : (Jvm.Cond.methodLink "java/lang/StringUTF16" (111 : Nat) ({ cls := "java/lang/StringUTF16", name := "putChar", desc := "([BII)V" } : Jvm.MethodName)) ∈ lw_all := lw_g (lw_at lw_m3 71 rfl) rfl
theorem q713 : (Jvm.Cond.static ({ cls := "java/lang/StringUTF16", name := "putChar", desc := "([BII)V" } : Jvm.MethodName)) ∈ lw_all := lw_g (lw_at lw_m3 72 rfl) rfl
theorem q714 : (Jvm.Cond.code ({ cls := "java/lang/StringUTF16", name := "putChar", desc := "([BII)V" } : Jvm.MethodName) prog_40_method_4_code (3 : Nat) (Option.none : Option Jvm.ClassFile.FieldType)) ∈ lw_all := lw_g (lw_at lw_m3 73 rfl) rfl
theorem q715 : (Jvm.Cond.fieldLink "java/lang/StringUTF16" (44 : Nat) "java/lang/StringUTF16" "$assertionsDisabled" "Z") ∈ lw_all := lw_g (lw_at lw_m3 74 rfl) rfl
theorem q716 : (Jvm.Cond.laysStatic "java/lang/StringUTF16" "$assertionsDisabled" "Z") ∈ lw_tbl := lw_at lw_m3 75 rfl
theorem q717 : (Jvm.Cond.methodLink "java/lang/StringUTF16" (48 : Nat) ({ cls := "java/lang/StringUTF16", name := "length", desc := "([B)I" } : Jvm.MethodName)) ∈ lw_all := lw_g (lw_at lw_m3 76 rfl) rfl
theorem q718 : (Jvm.Cond.static ({ cls := "java/lang/StringUTF16", name := "length", desc := "([B)I" } : Jvm.MethodName)) ∈ lw_all := lw_g (lw_at lw_m3 77 rfl) rfl
theorem q719 : (Jvm.Cond.code ({ cls := "java/lang/StringUTF16", name := "length", desc := "([B)I" } : Jvm.MethodName) prog_40_method_6_code (1 : Nat) (Option.some Jvm.ClassFile.FieldType.int)) ∈ lw_all := lw_g (lw_at lw_m3 78 rfl) rfl
theorem q720 : (Jvm.Cond.fieldLink "java/lang/StringUTF16" (59 : Nat) "java/lang/StringUTF16" "HI_BYTE_SHIFT" "I") ∈ lw_all := lw_g (lw_at lw_m3 79 rfl) rfl
theorem q721 : (Jvm.Cond.laysStatic "java/lang/StringUTF16" "HI_BYTE_SHIFT" "I") ∈ lw_tbl := lw_at lw_m3 80 rfl
theorem q722 : (Jvm.Cond.fieldLink "java/lang/StringUTF16" (63 : Nat) "java/lang/StringUTF16" "LO_BYTE_SHIFT" "I") ∈ lw_all := lw_g (lw_at lw_m3 81 rfl) rfl
theorem q723 : (Jvm.Cond.laysStatic "java/lang/StringUTF16" "LO_BYTE_SHIFT" "I") ∈ lw_tbl := lw_at lw_m3 82 rfl
theorem q724 : (Jvm.Cond.methodLink "java/lang/StringUTF16" (71 : Nat) ({ cls := "java/lang/StringUTF16", name := "getChar", desc := "([BI)C" } : Jvm.MethodName)) ∈ lw_all := lw_g (lw_at lw_m3 83 rfl) rfl
theorem q725 : (Jvm.Cond.static ({ cls := "java/lang/StringUTF16", name := "getChar", desc := "([BI)C" } : Jvm.MethodName)) ∈ lw_all := lw_g (lw_at lw_m3 84 rfl) rfl
theorem q726 : (Jvm.Cond.code ({ cls := "java/lang/StringUTF16", name := "getChar", desc := "([BI)C" } : Jvm.MethodName) prog_40_method_5_code (2 : Nat) (Option.some Jvm.ClassFile.FieldType.char)) ∈ lw_all := lw_g (lw_at lw_m3 85 rfl) rfl
theorem q727 : (Jvm.Cond.methodLink "java/lang/StringUTF16" (123 : Nat) ({ cls := "java/lang/StringUTF16", name := "compress", desc := "([BI[BII)I" } : Jvm.MethodName)) ∈ lw_all := lw_g (lw_at lw_m3 86 rfl) rfl
theorem q728 : (Jvm.Cond.static ({ cls := "java/lang/StringUTF16", name := "compress", desc := "([BI[BII)I" } : Jvm.MethodName)) ∈ lw_all := lw_g (lw_at lw_m3 87 rfl) rfl
theorem q729 : (Jvm.Cond.code ({ cls := "java/lang/StringUTF16", name := "compress", desc := "([BI[BII)I" } : Jvm.MethodName) prog_40_method_22_code (7 : Nat) (Option.some Jvm.ClassFile.FieldType.int)) ∈ lw_all := lw_g (lw_at lw_m3 88 rfl) rfl
theorem q730 : (Jvm.Cond.methodLink "java/lang/StringUTF16" (173 : Nat) ({ cls := "java/lang/StringUTF16", name := "checkBoundsOffCount", desc := "(II[B)V" } : Jvm.MethodName)) ∈ lw_all := lw_g (lw_at lw_m3 89 rfl) rfl
theorem q731 : (Jvm.Cond.static ({ cls := "java/lang/StringUTF16", name := "checkBoundsOffCount", desc := "(II[B)V" } : Jvm.MethodName)) ∈ lw_all := lw_g (lw_at lw_m3 90 rfl) rfl
theorem q732 : (Jvm.Cond.code ({ cls := "java/lang/StringUTF16", name := "checkBoundsOffCount", desc := "(II[B)V" } : Jvm.MethodName) prog_40_method_94_code (3 : Nat) (Option.none : Option Jvm.ClassFile.FieldType)) ∈ lw_all := lw_g (lw_at lw_m3 91 rfl) rfl
theorem q733 : (Jvm.Cond.methodLink "java/lang/StringUTF16" (419 : Nat) ({ cls := "java/lang/String", name := "checkBoundsOffCount", desc := "(III)I" } : Jvm.MethodName)) ∈ lw_all := lw_g (lw_at lw_m3 92 rfl) rfl
theorem q742 : (Jvm.Cond.static ({ cls := "java/lang/StringUTF16", name := "coderFromArrayLen", desc := "([BI)B" } : Jvm.MethodName)) ∈ lw_all := lw_g (lw_at lw_m3 101 rfl) rfl
theorem q743 : (Jvm.Cond.code ({ cls := "java/lang/StringUTF16", name := "coderFromArrayLen", desc := "([BI)B" } : Jvm.MethodName) prog_40_method_15_code (2 : Nat) (Option.some Jvm.ClassFile.FieldType.byte)) ∈ lw_all := lw_g (lw_at lw_m3 102 rfl) rfl
theorem q842 : (Jvm.Cond.static ({ cls := "java/lang/StringUTF16", name := "hashCode", desc := "([B)I" } : Jvm.MethodName)) ∈ lw_all := lw_g (lw_at lw_m3 201 rfl) rfl
theorem q843 : (Jvm.Cond.code ({ cls := "java/lang/StringUTF16", name := "hashCode", desc := "([B)I" } : Jvm.MethodName) prog_40_method_39_code (1 : Nat) (Option.some Jvm.ClassFile.FieldType.int)) ∈ lw_all := lw_g (lw_at lw_m3 202 rfl) rfl
theorem q844 : (Jvm.Cond.methodLink "java/lang/StringUTF16" (220 : Nat) ({ cls := "jdk/internal/util/ArraysSupport", name := "vectorizedHashCode", desc := "(Ljava/lang/Object;IIII)I" } : Jvm.MethodName)) ∈ lw_all := lw_g (lw_at lw_m3 203 rfl) rfl
theorem q1250 : (Jvm.Cond.static ({ cls := "java/lang/StringUTF16", name := "inflate", desc := "([BI[BII)V" } : Jvm.MethodName)) ∈ lw_all := lw_g (lw_at lw_m5 129 rfl) rfl
theorem q1251 : (Jvm.Cond.code ({ cls := "java/lang/StringUTF16", name := "inflate", desc := "([BI[BII)V" } : Jvm.MethodName) prog_40_method_86_code (6 : Nat) (Option.none : Option Jvm.ClassFile.FieldType)) ∈ lw_all := lw_g (lw_at lw_m5 130 rfl) rfl
theorem q1253 : (Jvm.Cond.static ({ cls := "java/lang/StringUTF16", name := "putCharSB", desc := "([BII)V" } : Jvm.MethodName)) ∈ lw_all := lw_g (lw_at lw_m5 132 rfl) rfl
theorem q1254 : (Jvm.Cond.code ({ cls := "java/lang/StringUTF16", name := "putCharSB", desc := "([BII)V" } : Jvm.MethodName) prog_40_method_71_code (3 : Nat) (Option.none : Option Jvm.ClassFile.FieldType)) ∈ lw_all := lw_g (lw_at lw_m5 133 rfl) rfl
theorem q1255 : (Jvm.Cond.methodLink "java/lang/StringUTF16" (67 : Nat) ({ cls := "java/lang/StringUTF16", name := "checkIndex", desc := "(I[B)V" } : Jvm.MethodName)) ∈ lw_all := lw_g (lw_at lw_m5 134 rfl) rfl
theorem q1256 : (Jvm.Cond.static ({ cls := "java/lang/StringUTF16", name := "checkIndex", desc := "(I[B)V" } : Jvm.MethodName)) ∈ lw_all := lw_g (lw_at lw_m5 135 rfl) rfl
theorem q1257 : (Jvm.Cond.code ({ cls := "java/lang/StringUTF16", name := "checkIndex", desc := "(I[B)V" } : Jvm.MethodName) prog_40_method_91_code (2 : Nat) (Option.none : Option Jvm.ClassFile.FieldType)) ∈ lw_all := lw_g (lw_at lw_m5 136 rfl) rfl
theorem q1258 : (Jvm.Cond.methodLink "java/lang/StringUTF16" (414 : Nat) ({ cls := "java/lang/String", name := "checkIndex", desc := "(II)V" } : Jvm.MethodName)) ∈ lw_all := lw_g (lw_at lw_m5 137 rfl) rfl
theorem q1349 : (Jvm.Cond.static ({ cls := "java/lang/StringUTF16", name := "charAt", desc := "([BI)C" } : Jvm.MethodName)) ∈ lw_all := lw_g (lw_at lw_m5 228 rfl) rfl
theorem q1350 : (Jvm.Cond.code ({ cls := "java/lang/StringUTF16", name := "charAt", desc := "([BI)C" } : Jvm.MethodName) prog_40_method_83_code (2 : Nat) (Option.some Jvm.ClassFile.FieldType.char)) ∈ lw_all := lw_g (lw_at lw_m5 229 rfl) rfl
theorem q162 : (Jvm.Cond.initialized "GardenChess") ∈ lw_all := lw_g (lw_at lw_m1 1 rfl) rfl
theorem q205 : (Jvm.Cond.instantiable "GardenChess" (25 : Nat)) ∈ lw_all := lw_g (lw_at lw_m1 44 rfl) rfl
theorem q207 : (Jvm.Cond.instanceMethod ({ cls := "GardenChess", name := "<init>", desc := "()V" } : Jvm.MethodName)) ∈ lw_all := lw_g (lw_at lw_m1 46 rfl) rfl
theorem q208 : (Jvm.Cond.code ({ cls := "GardenChess", name := "<init>", desc := "()V" } : Jvm.MethodName) prog_1_method_7_code (2 : Nat) (Option.none : Option Jvm.ClassFile.FieldType)) ∈ lw_all := lw_g (lw_at lw_m1 47 rfl) rfl
theorem q209 : (Jvm.Cond.methodLink "GardenChess" (22 : Nat) ({ cls := "java/lang/Object", name := "<init>", desc := "()V" } : Jvm.MethodName)) ∈ lw_all := lw_g (lw_at lw_m1 48 rfl) rfl
theorem q212 : (Jvm.Cond.classLink "GardenChess" (28 : Nat) "GardenChess$Board") ∈ lw_all := lw_g (lw_at lw_m1 51 rfl) rfl
theorem q214 : (Jvm.Cond.methodLinkNest "GardenChess" (30 : Nat) ({ cls := "GardenChess$Board", name := "<init>", desc := "()V" } : Jvm.MethodName) "GardenChess") ∈ lw_tbl := lw_at lw_m1 53 rfl
theorem q247 : (Jvm.Cond.fieldLinkNest "GardenChess" (156 : Nat) "GardenChess$Board" "statements" "I" "GardenChess") ∈ lw_tbl := lw_at lw_m1 86 rfl
theorem q250 : (Jvm.Cond.fieldLinkNest "GardenChess" (159 : Nat) "GardenChess$Board" "columns" "I" "GardenChess") ∈ lw_tbl := lw_at lw_m1 89 rfl
theorem q254 : (Jvm.Cond.fieldLinkNest "GardenChess" (182 : Nat) "GardenChess$Board" "rows" "I" "GardenChess") ∈ lw_tbl := lw_at lw_m1 93 rfl
theorem q258 : (Jvm.Cond.fieldLinkNest "GardenChess" (384 : Nat) "GardenChess$Board" "sleepy" "I" "GardenChess") ∈ lw_tbl := lw_at lw_m1 97 rfl
theorem q262 : (Jvm.Cond.fieldLinkNest "GardenChess" (345 : Nat) "GardenChess$Board" "looks" "[I" "GardenChess") ∈ lw_tbl := lw_at lw_m1 101 rfl
theorem q265 : (Jvm.Cond.fieldLinkNest "GardenChess" (189 : Nat) "GardenChess$Board" "kinds" "Ljava/util/List;" "GardenChess") ∈ lw_tbl := lw_at lw_m1 104 rfl
theorem q267 : (Jvm.Cond.fieldLinkNest "GardenChess" (162 : Nat) "GardenChess$Board" "men" "Ljava/util/List;" "GardenChess") ∈ lw_tbl := lw_at lw_m1 106 rfl
theorem q271 : (Jvm.Cond.fieldLinkNest "GardenChess" (171 : Nat) "GardenChess$Board" "fields" "Ljava/util/List;" "GardenChess") ∈ lw_tbl := lw_at lw_m1 110 rfl
theorem q296 : (Jvm.Cond.classLink "GardenChess" (43 : Nat) "GardenChess$Reader") ∈ lw_all := lw_g (lw_at lw_m1 135 rfl) rfl
theorem q298 : (Jvm.Cond.methodLinkNest "GardenChess" (45 : Nat) ({ cls := "GardenChess$Reader", name := "<init>", desc := "(LGardenChess;)V" } : Jvm.MethodName) "GardenChess") ∈ lw_tbl := lw_at lw_m1 137 rfl
theorem q354 : (Jvm.Cond.fieldLinkNest "GardenChess" (141 : Nat) "GardenChess$Fault" "kind" "I" "GardenChess") ∈ lw_tbl := lw_at lw_m1 193 rfl
theorem q356 : (Jvm.Cond.fieldLinkNest "GardenChess" (144 : Nat) "GardenChess$Fault" "place" "I" "GardenChess") ∈ lw_tbl := lw_at lw_m1 195 rfl
theorem q400 : (Jvm.Cond.classLink "GardenChess" (52 : Nat) "GardenChess$Moment") ∈ lw_all := lw_g (lw_at lw_m1 239 rfl) rfl
theorem q402 : (Jvm.Cond.methodLinkNest "GardenChess" (54 : Nat) ({ cls := "GardenChess$Moment", name := "<init>", desc := "()V" } : Jvm.MethodName) "GardenChess") ∈ lw_tbl := lw_at lw_m2 1 rfl
theorem q409 : (Jvm.Cond.fieldLinkNest "GardenChess" (398 : Nat) "GardenChess$Moment" "of" "[J" "GardenChess") ∈ lw_tbl := lw_at lw_m2 8 rfl
theorem q414 : (Jvm.Cond.classLink "GardenChess" (66 : Nat) "GardenChess$Moves") ∈ lw_all := lw_g (lw_at lw_m2 13 rfl) rfl
theorem q417 : (Jvm.Cond.methodLinkNest "GardenChess" (72 : Nat) ({ cls := "GardenChess$Moves", name := "<init>", desc := "()V" } : Jvm.MethodName) "GardenChess") ∈ lw_tbl := lw_at lw_m2 16 rfl
theorem q423 : (Jvm.Cond.fieldLinkNest "GardenChess" (288 : Nat) "GardenChess$Moves" "man" "[I" "GardenChess") ∈ lw_tbl := lw_at lw_m2 22 rfl
theorem q426 : (Jvm.Cond.fieldLinkNest "GardenChess" (287 : Nat) "GardenChess$Moves" "place" "[I" "GardenChess") ∈ lw_tbl := lw_at lw_m2 25 rfl
theorem q429 : (Jvm.Cond.fieldLinkNest "GardenChess" (276 : Nat) "GardenChess$Moves" "many" "I" "GardenChess") ∈ lw_tbl := lw_at lw_m2 28 rfl
theorem q437 : (Jvm.Cond.classLink "GardenChess" (80 : Nat) "GardenChess$State") ∈ lw_all := lw_g (lw_at lw_m2 36 rfl) rfl
theorem q439 : (Jvm.Cond.methodLinkNest "GardenChess" (82 : Nat) ({ cls := "GardenChess$State", name := "<init>", desc := "(LGardenChess;)V" } : Jvm.MethodName) "GardenChess") ∈ lw_tbl := lw_at lw_m2 38 rfl
theorem q446 : (Jvm.Cond.fieldLinkNest "GardenChess" (205 : Nat) "GardenChess$State" "day" "I" "GardenChess") ∈ lw_tbl := lw_at lw_m2 45 rfl
theorem q448 : (Jvm.Cond.fieldLinkNest "GardenChess" (208 : Nat) "GardenChess$State" "side" "I" "GardenChess") ∈ lw_tbl := lw_at lw_m2 47 rfl
theorem q450 : (Jvm.Cond.fieldLinkNest "GardenChess" (224 : Nat) "GardenChess$State" "keeps" "I" "GardenChess") ∈ lw_tbl := lw_at lw_m2 49 rfl
theorem q452 : (Jvm.Cond.fieldLinkNest "GardenChess" (249 : Nat) "GardenChess$State" "place" "[I" "GardenChess") ∈ lw_tbl := lw_at lw_m2 51 rfl
theorem q454 : (Jvm.Cond.fieldLinkNest "GardenChess" (273 : Nat) "GardenChess$State" "on" "[I" "GardenChess") ∈ lw_tbl := lw_at lw_m2 53 rfl
theorem q456 : (Jvm.Cond.fieldLinkNest "GardenChess" (266 : Nat) "GardenChess$State" "bears" "[I" "GardenChess") ∈ lw_tbl := lw_at lw_m2 55 rfl
theorem q458 : (Jvm.Cond.fieldLinkNest "GardenChess" (301 : Nat) "GardenChess$State" "rows" "[[I" "GardenChess") ∈ lw_tbl := lw_at lw_m2 57 rfl
theorem q460 : (Jvm.Cond.fieldLinkNest "GardenChess" (278 : Nat) "GardenChess$State" "crowns" "I" "GardenChess") ∈ lw_tbl := lw_at lw_m2 59 rfl
theorem q491 : (Jvm.Cond.methodLink "GardenChess" (107 : Nat) ({ cls := "GardenChess$State", name := "stands", desc := "()V" } : Jvm.MethodName)) ∈ lw_all := lw_g (lw_at lw_m2 90 rfl) rfl
theorem q496 : (Jvm.Cond.privateMethod ({ cls := "GardenChess", name := "men", desc := "()I" } : Jvm.MethodName)) ∈ lw_tbl := lw_at lw_m2 95 rfl
theorem q497 : (Jvm.Cond.instanceMethod ({ cls := "GardenChess", name := "men", desc := "()I" } : Jvm.MethodName)) ∈ lw_all := lw_g (lw_at lw_m2 96 rfl) rfl
theorem q498 : (Jvm.Cond.code ({ cls := "GardenChess", name := "men", desc := "()I" } : Jvm.MethodName) prog_1_method_16_code (1 : Nat) (Option.some Jvm.ClassFile.FieldType.int)) ∈ lw_all := lw_g (lw_at lw_m2 97 rfl) rfl
theorem q499 : (Jvm.Cond.interfaceEntry "GardenChess" (166 : Nat)) ∈ lw_tbl := lw_at lw_m2 98 rfl
theorem q500 : (Jvm.Cond.methodLink "GardenChess" (166 : Nat) ({ cls := "java/util/List", name := "size", desc := "()I" } : Jvm.MethodName)) ∈ lw_all := lw_g (lw_at lw_m2 99 rfl) rfl
theorem q510 : (Jvm.Cond.privateMethod ({ cls := "GardenChess", name := "kindOf", desc := "(I)LGardenChess$Kind;" } : Jvm.MethodName)) ∈ lw_tbl := lw_at lw_m2 109 rfl
theorem q511 : (Jvm.Cond.instanceMethod ({ cls := "GardenChess", name := "kindOf", desc := "(I)LGardenChess$Kind;" } : Jvm.MethodName)) ∈ lw_all := lw_g (lw_at lw_m2 110 rfl) rfl
theorem q512 : (Jvm.Cond.code ({ cls := "GardenChess", name := "kindOf", desc := "(I)LGardenChess$Kind;" } : Jvm.MethodName) prog_1_method_22_code (2 : Nat) (Option.some (Jvm.ClassFile.FieldType.object "GardenChess$Kind"))) ∈ lw_all := lw_g (lw_at lw_m2 111 rfl) rfl
theorem q513 : (Jvm.Cond.methodLink "GardenChess" (192 : Nat) ({ cls := "GardenChess", name := "manOf", desc := "(I)LGardenChess$Man;" } : Jvm.MethodName)) ∈ lw_all := lw_g (lw_at lw_m2 112 rfl) rfl
theorem q514 : (Jvm.Cond.privateMethod ({ cls := "GardenChess", name := "manOf", desc := "(I)LGardenChess$Man;" } : Jvm.MethodName)) ∈ lw_tbl := lw_at lw_m2 113 rfl
theorem q515 : (Jvm.Cond.instanceMethod ({ cls := "GardenChess", name := "manOf", desc := "(I)LGardenChess$Man;" } : Jvm.MethodName)) ∈ lw_all := lw_g (lw_at lw_m2 114 rfl) rfl
theorem q516 : (Jvm.Cond.code ({ cls := "GardenChess", name := "manOf", desc := "(I)LGardenChess$Man;" } : Jvm.MethodName) prog_1_method_21_code (2 : Nat) (Option.some (Jvm.ClassFile.FieldType.object "GardenChess$Man"))) ∈ lw_all := lw_g (lw_at lw_m2 115 rfl) rfl
theorem q517 : (Jvm.Cond.interfaceEntry "GardenChess" (183 : Nat)) ∈ lw_tbl := lw_at lw_m2 116 rfl
theorem q518 : (Jvm.Cond.methodLink "GardenChess" (183 : Nat) ({ cls := "java/util/List", name := "get", desc := "(I)Ljava/lang/Object;" } : Jvm.MethodName)) ∈ lw_all := lw_g (lw_at lw_m2 117 rfl) rfl
theorem q536 : (Jvm.Cond.classLink "GardenChess" (187 : Nat) "GardenChess$Man") ∈ lw_all := lw_g (lw_at lw_m2 135 rfl) rfl
theorem q537 : (Jvm.Cond.classLink "GardenChess" (197 : Nat) "GardenChess$Kind") ∈ lw_all := lw_g (lw_at lw_m2 136 rfl) rfl
theorem q539 : (Jvm.Cond.fieldLink "GardenChess" (31 : Nat) "GardenChess" "board" "LGardenChess$Board;") ∈ lw_all := lw_g (lw_at lw_m2 138 rfl) rfl
theorem q541 : (Jvm.Cond.fieldLink "GardenChess" (35 : Nat) "GardenChess" "tape" "[B") ∈ lw_all := lw_g (lw_at lw_m2 140 rfl) rfl
theorem q542 : (Jvm.Cond.fieldLink "GardenChess" (117 : Nat) "GardenChess" "taped" "I") ∈ lw_all := lw_g (lw_at lw_m2 141 rfl) rfl
theorem q543 : (Jvm.Cond.fieldLink "GardenChess" (128 : Nat) "GardenChess" "faultKind" "I") ∈ lw_all := lw_g (lw_at lw_m2 142 rfl) rfl
theorem q544 : (Jvm.Cond.fieldLink "GardenChess" (39 : Nat) "GardenChess" "faultPlace" "I") ∈ lw_all := lw_g (lw_at lw_m2 143 rfl) rfl
theorem q545 : (Jvm.Cond.fieldLink "GardenChess" (48 : Nat) "GardenChess" "reader" "LGardenChess$Reader;") ∈ lw_all := lw_g (lw_at lw_m2 144 rfl) rfl
theorem q546 : (Jvm.Cond.fieldLink "GardenChess" (55 : Nat) "GardenChess" "moment" "LGardenChess$Moment;") ∈ lw_all := lw_g (lw_at lw_m2 145 rfl) rfl
theorem q548 : (Jvm.Cond.fieldLink "GardenChess" (59 : Nat) "GardenChess" "asked" "LGardenChess$Moment;") ∈ lw_all := lw_g (lw_at lw_m2 147 rfl) rfl
theorem q549 : (Jvm.Cond.fieldLink "GardenChess" (62 : Nat) "GardenChess" "refused" "[I") ∈ lw_all := lw_g (lw_at lw_m2 148 rfl) rfl
theorem q550 : (Jvm.Cond.fieldLink "GardenChess" (68 : Nat) "GardenChess" "movesAt" "[LGardenChess$Moves;") ∈ lw_all := lw_g (lw_at lw_m2 149 rfl) rfl
theorem q552 : (Jvm.Cond.fieldLink "GardenChess" (73 : Nat) "GardenChess" "spare" "LGardenChess$Moves;") ∈ lw_all := lw_g (lw_at lw_m2 151 rfl) rfl
theorem q554 : (Jvm.Cond.fieldLink "GardenChess" (77 : Nat) "GardenChess" "options" "LGardenChess$Moves;") ∈ lw_all := lw_g (lw_at lw_m2 153 rfl) rfl
theorem q555 : (Jvm.Cond.fieldLink "GardenChess" (83 : Nat) "GardenChess" "now" "LGardenChess$State;") ∈ lw_all := lw_g (lw_at lw_m2 154 rfl) rfl
theorem q556 : (Jvm.Cond.fieldLink "GardenChess" (87 : Nat) "GardenChess" "tried" "LGardenChess$State;") ∈ lw_all := lw_g (lw_at lw_m2 155 rfl) rfl
theorem q557 : (Jvm.Cond.fieldLink "GardenChess" (90 : Nat) "GardenChess" "harmOn" "[J") ∈ lw_all := lw_g (lw_at lw_m2 156 rfl) rfl
theorem q558 : (Jvm.Cond.fieldLink "GardenChess" (94 : Nat) "GardenChess" "seenField" "[I") ∈ lw_all := lw_g (lw_at lw_m2 157 rfl) rfl
theorem q559 : (Jvm.Cond.fieldLink "GardenChess" (97 : Nat) "GardenChess" "seenBears" "[I") ∈ lw_all := lw_g (lw_at lw_m2 158 rfl) rfl
theorem q560 : (Jvm.Cond.fieldLink "GardenChess" (153 : Nat) "GardenChess" "rows" "I") ∈ lw_all := lw_g (lw_at lw_m2 159 rfl) rfl
theorem q561 : (Jvm.Cond.fieldLink "GardenChess" (100 : Nat) "GardenChess" "goal" "[I") ∈ lw_all := lw_g (lw_at lw_m2 160 rfl) rfl
theorem q562 : (Jvm.Cond.fieldLink "GardenChess" (103 : Nat) "GardenChess" "kept" "[LGardenChess$State;") ∈ lw_all := lw_g (lw_at lw_m2 161 rfl) rfl
theorem q563 : (Jvm.Cond.fieldLink "GardenChess" (150 : Nat) "GardenChess" "undos" "I") ∈ lw_all := lw_g (lw_at lw_m2 162 rfl) rfl
theorem q564 : (Jvm.Cond.fieldLink "GardenChess" (110 : Nat) "GardenChess" "seeds" "J") ∈ lw_all := lw_g (lw_at lw_m2 163 rfl) rfl
theorem q565 : (Jvm.Cond.fieldLink "GardenChess" (387 : Nat) "GardenChess" "askedMan" "I") ∈ lw_all := lw_g (lw_at lw_m2 164 rfl) rfl
theorem q566 : (Jvm.Cond.fieldLink "GardenChess" (114 : Nat) "GardenChess" "out" "[B") ∈ lw_all := lw_g (lw_at lw_m2 165 rfl) rfl
theorem q567 : (Jvm.Cond.fieldLink "GardenChess" (411 : Nat) "GardenChess" "outs" "I") ∈ lw_all := lw_g (lw_at lw_m2 166 rfl) rfl
theorem q568 : (Jvm.Cond.lays "GardenChess" "GardenChess" "board" "LGardenChess$Board;") ∈ lw_all := lw_g (lw_at lw_m2 167 rfl) rfl
theorem q569 : (Jvm.Cond.soleField "GardenChess" "board") ∈ lw_all := lw_g (lw_at lw_m2 168 rfl) rfl
theorem q570 : (Jvm.Cond.laysFinal "GardenChess" "GardenChess" "tape" "[B") ∈ lw_all := lw_g (lw_at lw_m2 169 rfl) rfl
theorem q571 : (Jvm.Cond.soleField "GardenChess" "tape") ∈ lw_all := lw_g (lw_at lw_m2 170 rfl) rfl
theorem q572 : (Jvm.Cond.lays "GardenChess" "GardenChess" "taped" "I") ∈ lw_all := lw_g (lw_at lw_m2 171 rfl) rfl
theorem q573 : (Jvm.Cond.soleField "GardenChess" "taped") ∈ lw_all := lw_g (lw_at lw_m2 172 rfl) rfl
theorem q574 : (Jvm.Cond.lays "GardenChess" "GardenChess" "faultKind" "I") ∈ lw_all := lw_g (lw_at lw_m2 173 rfl) rfl
theorem q575 : (Jvm.Cond.soleField "GardenChess" "faultKind") ∈ lw_all := lw_g (lw_at lw_m2 174 rfl) rfl
theorem q576 : (Jvm.Cond.lays "GardenChess" "GardenChess" "faultPlace" "I") ∈ lw_all := lw_g (lw_at lw_m2 175 rfl) rfl
theorem q577 : (Jvm.Cond.soleField "GardenChess" "faultPlace") ∈ lw_all := lw_g (lw_at lw_m2 176 rfl) rfl
theorem q578 : (Jvm.Cond.laysFinal "GardenChess" "GardenChess" "reader" "LGardenChess$Reader;") ∈ lw_all := lw_g (lw_at lw_m2 177 rfl) rfl
theorem q579 : (Jvm.Cond.soleField "GardenChess" "reader") ∈ lw_all := lw_g (lw_at lw_m2 178 rfl) rfl
theorem q580 : (Jvm.Cond.laysFinal "GardenChess" "GardenChess" "moment" "LGardenChess$Moment;") ∈ lw_all := lw_g (lw_at lw_m2 179 rfl) rfl
theorem q581 : (Jvm.Cond.soleField "GardenChess" "moment") ∈ lw_all := lw_g (lw_at lw_m2 180 rfl) rfl
theorem q582 : (Jvm.Cond.laysFinal "GardenChess" "GardenChess" "asked" "LGardenChess$Moment;") ∈ lw_all := lw_g (lw_at lw_m2 181 rfl) rfl
theorem q583 : (Jvm.Cond.soleField "GardenChess" "asked") ∈ lw_all := lw_g (lw_at lw_m2 182 rfl) rfl
theorem q584 : (Jvm.Cond.laysFinal "GardenChess" "GardenChess" "refused" "[I") ∈ lw_all := lw_g (lw_at lw_m2 183 rfl) rfl
theorem q585 : (Jvm.Cond.soleField "GardenChess" "refused") ∈ lw_all := lw_g (lw_at lw_m2 184 rfl) rfl
theorem q586 : (Jvm.Cond.laysFinal "GardenChess" "GardenChess" "movesAt" "[LGardenChess$Moves;") ∈ lw_all := lw_g (lw_at lw_m2 185 rfl) rfl
theorem q587 : (Jvm.Cond.soleField "GardenChess" "movesAt") ∈ lw_all := lw_g (lw_at lw_m2 186 rfl) rfl
theorem q588 : (Jvm.Cond.laysFinal "GardenChess" "GardenChess" "spare" "LGardenChess$Moves;") ∈ lw_all := lw_g (lw_at lw_m2 187 rfl) rfl
theorem q589 : (Jvm.Cond.soleField "GardenChess" "spare") ∈ lw_all := lw_g (lw_at lw_m2 188 rfl) rfl
theorem q590 : (Jvm.Cond.laysFinal "GardenChess" "GardenChess" "options" "LGardenChess$Moves;") ∈ lw_all := lw_g (lw_at lw_m2 189 rfl) rfl
theorem q591 : (Jvm.Cond.soleField "GardenChess" "options") ∈ lw_all := lw_g (lw_at lw_m2 190 rfl) rfl
theorem q592 : (Jvm.Cond.laysFinal "GardenChess" "GardenChess" "now" "LGardenChess$State;") ∈ lw_all := lw_g (lw_at lw_m2 191 rfl) rfl
theorem q593 : (Jvm.Cond.soleField "GardenChess" "now") ∈ lw_all := lw_g (lw_at lw_m2 192 rfl) rfl
theorem q594 : (Jvm.Cond.laysFinal "GardenChess" "GardenChess" "tried" "LGardenChess$State;") ∈ lw_all := lw_g (lw_at lw_m2 193 rfl) rfl
theorem q595 : (Jvm.Cond.soleField "GardenChess" "tried") ∈ lw_all := lw_g (lw_at lw_m2 194 rfl) rfl
theorem q596 : (Jvm.Cond.laysFinal "GardenChess" "GardenChess" "harmOn" "[J") ∈ lw_all := lw_g (lw_at lw_m2 195 rfl) rfl
theorem q597 : (Jvm.Cond.soleField "GardenChess" "harmOn") ∈ lw_all := lw_g (lw_at lw_m2 196 rfl) rfl
theorem q598 : (Jvm.Cond.laysFinal "GardenChess" "GardenChess" "seenField" "[I") ∈ lw_all := lw_g (lw_at lw_m2 197 rfl) rfl
theorem q599 : (Jvm.Cond.soleField "GardenChess" "seenField") ∈ lw_all := lw_g (lw_at lw_m2 198 rfl) rfl
theorem q600 : (Jvm.Cond.laysFinal "GardenChess" "GardenChess" "seenBears" "[I") ∈ lw_all := lw_g (lw_at lw_m2 199 rfl) rfl
theorem q601 : (Jvm.Cond.soleField "GardenChess" "seenBears") ∈ lw_all := lw_g (lw_at lw_m2 200 rfl) rfl
theorem q602 : (Jvm.Cond.lays "GardenChess" "GardenChess" "rows" "I") ∈ lw_all := lw_g (lw_at lw_m2 201 rfl) rfl
theorem q603 : (Jvm.Cond.soleField "GardenChess" "rows") ∈ lw_all := lw_g (lw_at lw_m2 202 rfl) rfl
theorem q604 : (Jvm.Cond.laysFinal "GardenChess" "GardenChess" "goal" "[I") ∈ lw_all := lw_g (lw_at lw_m2 203 rfl) rfl
theorem q605 : (Jvm.Cond.soleField "GardenChess" "goal") ∈ lw_all := lw_g (lw_at lw_m2 204 rfl) rfl
theorem q606 : (Jvm.Cond.laysFinal "GardenChess" "GardenChess" "kept" "[LGardenChess$State;") ∈ lw_all := lw_g (lw_at lw_m2 205 rfl) rfl
theorem q607 : (Jvm.Cond.soleField "GardenChess" "kept") ∈ lw_all := lw_g (lw_at lw_m2 206 rfl) rfl
theorem q608 : (Jvm.Cond.lays "GardenChess" "GardenChess" "undos" "I") ∈ lw_all := lw_g (lw_at lw_m2 207 rfl) rfl
theorem q609 : (Jvm.Cond.soleField "GardenChess" "undos") ∈ lw_all := lw_g (lw_at lw_m2 208 rfl) rfl
theorem q610 : (Jvm.Cond.lays "GardenChess" "GardenChess" "seeds" "J") ∈ lw_all := lw_g (lw_at lw_m2 209 rfl) rfl
theorem q611 : (Jvm.Cond.soleField "GardenChess" "seeds") ∈ lw_all := lw_g (lw_at lw_m2 210 rfl) rfl
theorem q612 : (Jvm.Cond.lays "GardenChess" "GardenChess" "askedMan" "I") ∈ lw_all := lw_g (lw_at lw_m2 211 rfl) rfl
theorem q613 : (Jvm.Cond.soleField "GardenChess" "askedMan") ∈ lw_all := lw_g (lw_at lw_m2 212 rfl) rfl
theorem q614 : (Jvm.Cond.laysFinal "GardenChess" "GardenChess" "out" "[B") ∈ lw_all := lw_g (lw_at lw_m2 213 rfl) rfl
theorem q615 : (Jvm.Cond.soleField "GardenChess" "out") ∈ lw_all := lw_g (lw_at lw_m2 214 rfl) rfl
theorem q616 : (Jvm.Cond.lays "GardenChess" "GardenChess" "outs" "I") ∈ lw_all := lw_g (lw_at lw_m2 215 rfl) rfl
theorem q617 : (Jvm.Cond.soleField "GardenChess" "outs") ∈ lw_all := lw_g (lw_at lw_m2 216 rfl) rfl
theorem q618 : (Jvm.Cond.superclass "GardenChess" "java/lang/Object") ∈ lw_all := lw_g (lw_at lw_m2 217 rfl) rfl
theorem q620 : (Jvm.Cond.instanceMethod ({ cls := "GardenChess", name := "feed", desc := "(IIIII)I" } : Jvm.MethodName)) ∈ lw_all := lw_g (lw_at lw_m2 219 rfl) rfl
theorem q621 : (Jvm.Cond.selects "GardenChess" ({ cls := "GardenChess", name := "feed", desc := "(IIIII)I" } : Jvm.MethodName) ({ cls := "GardenChess", name := "feed", desc := "(IIIII)I" } : Jvm.MethodName)) ∈ lw_all := lw_g (lw_at lw_m2 220 rfl) rfl
theorem q622 : (Jvm.Cond.code ({ cls := "GardenChess", name := "feed", desc := "(IIIII)I" } : Jvm.MethodName) prog_1_method_10_code (6 : Nat) (Option.some Jvm.ClassFile.FieldType.int)) ∈ lw_all := lw_g (lw_at lw_m2 221 rfl) rfl
theorem q623 : (Jvm.Cond.methodLink "GardenChess" (120 : Nat) ({ cls := "GardenChess", name := "refuses", desc := "(I)I" } : Jvm.MethodName)) ∈ lw_all := lw_g (lw_at lw_m2 222 rfl) rfl
theorem q624 : (Jvm.Cond.privateMethod ({ cls := "GardenChess", name := "refuses", desc := "(I)I" } : Jvm.MethodName)) ∈ lw_tbl := lw_at lw_m2 223 rfl
theorem q625 : (Jvm.Cond.instanceMethod ({ cls := "GardenChess", name := "refuses", desc := "(I)I" } : Jvm.MethodName)) ∈ lw_all := lw_g (lw_at lw_m2 224 rfl) rfl
theorem q626 : (Jvm.Cond.code ({ cls := "GardenChess", name := "refuses", desc := "(I)I" } : Jvm.MethodName) prog_1_method_8_code (2 : Nat) (Option.some Jvm.ClassFile.FieldType.int)) ∈ lw_all := lw_g (lw_at lw_m2 225 rfl) rfl
theorem q627 : (Jvm.Cond.methodLink "GardenChess" (124 : Nat) ({ cls := "GardenChess", name := "put", desc := "(I)V" } : Jvm.MethodName)) ∈ lw_all := lw_g (lw_at lw_m2 226 rfl) rfl
theorem q628 : (Jvm.Cond.privateMethod ({ cls := "GardenChess", name := "put", desc := "(I)V" } : Jvm.MethodName)) ∈ lw_tbl := lw_at lw_m2 227 rfl
theorem q629 : (Jvm.Cond.instanceMethod ({ cls := "GardenChess", name := "put", desc := "(I)V" } : Jvm.MethodName)) ∈ lw_all := lw_g (lw_at lw_m2 228 rfl) rfl
theorem q630 : (Jvm.Cond.code ({ cls := "GardenChess", name := "put", desc := "(I)V" } : Jvm.MethodName) prog_1_method_9_code (3 : Nat) (Option.none : Option Jvm.ClassFile.FieldType)) ∈ lw_all := lw_g (lw_at lw_m2 229 rfl) rfl
theorem q632 : (Jvm.Cond.instanceMethod ({ cls := "GardenChess", name := "end", desc := "(I)Z" } : Jvm.MethodName)) ∈ lw_all := lw_g (lw_at lw_m2 231 rfl) rfl
theorem q633 : (Jvm.Cond.selects "GardenChess" ({ cls := "GardenChess", name := "end", desc := "(I)Z" } : Jvm.MethodName) ({ cls := "GardenChess", name := "end", desc := "(I)Z" } : Jvm.MethodName)) ∈ lw_all := lw_g (lw_at lw_m2 232 rfl) rfl
theorem q634 : (Jvm.Cond.code ({ cls := "GardenChess", name := "end", desc := "(I)Z" } : Jvm.MethodName) prog_1_method_11_code (2 : Nat) (Option.some Jvm.ClassFile.FieldType.boolean)) ∈ lw_all := lw_g (lw_at lw_m2 233 rfl) rfl
theorem q636 : (Jvm.Cond.instanceMethod ({ cls := "GardenChess", name := "board", desc := "()I" } : Jvm.MethodName)) ∈ lw_all := lw_g (lw_at lw_m2 235 rfl) rfl
theorem q637 : (Jvm.Cond.selects "GardenChess" ({ cls := "GardenChess", name := "board", desc := "()I" } : Jvm.MethodName) ({ cls := "GardenChess", name := "board", desc := "()I" } : Jvm.MethodName)) ∈ lw_all := lw_g (lw_at lw_m2 236 rfl) rfl
theorem q638 : (Jvm.Cond.codeWith ({ cls := "GardenChess", name := "board", desc := "()I" } : Jvm.MethodName) prog_1_method_13_code (2 : Nat) (Option.some Jvm.ClassFile.FieldType.int) [((10 : Nat), (25 : Nat), (28 : Nat), (139 : Nat))]) ∈ lw_all := lw_g (lw_at lw_m2 237 rfl) rfl
theorem q639 : (Jvm.Cond.classLink "GardenChess" (139 : Nat) "GardenChess$Fault") ∈ lw_all := lw_g (lw_at lw_m2 238 rfl) rfl
theorem q640 : (Jvm.Cond.methodLink "GardenChess" (131 : Nat) ({ cls := "GardenChess", name := "taken", desc := "()I" } : Jvm.MethodName)) ∈ lw_all := lw_g (lw_at lw_m2 239 rfl) rfl
theorem q641 : (Jvm.Cond.privateMethod ({ cls := "GardenChess", name := "taken", desc := "()I" } : Jvm.MethodName)) ∈ lw_tbl := lw_at lw_m3 0 rfl
theorem q642 : (Jvm.Cond.instanceMethod ({ cls := "GardenChess", name := "taken", desc := "()I" } : Jvm.MethodName)) ∈ lw_all := lw_g (lw_at lw_m3 1 rfl) rfl
theorem q643 : (Jvm.Cond.code ({ cls := "GardenChess", name := "taken", desc := "()I" } : Jvm.MethodName) prog_1_method_12_code (2 : Nat) (Option.some Jvm.ClassFile.FieldType.int)) ∈ lw_all := lw_g (lw_at lw_m3 2 rfl) rfl
theorem q644 : (Jvm.Cond.methodLink "GardenChess" (135 : Nat) ({ cls := "GardenChess$Reader", name := "all", desc := "(I)LGardenChess$Board;" } : Jvm.MethodName)) ∈ lw_all := lw_g (lw_at lw_m3 3 rfl) rfl
theorem q668 : (Jvm.Cond.static ({ cls := "GardenChess", name := "isLetter", desc := "(I)Z" } : Jvm.MethodName)) ∈ lw_all := lw_g (lw_at lw_m3 27 rfl) rfl
theorem q669 : (Jvm.Cond.code ({ cls := "GardenChess", name := "isLetter", desc := "(I)Z" } : Jvm.MethodName) prog_1_method_4_code (1 : Nat) (Option.some Jvm.ClassFile.FieldType.boolean)) ∈ lw_all := lw_g (lw_at lw_m3 28 rfl) rfl
theorem q679 : (Jvm.Cond.static ({ cls := "GardenChess", name := "isDigit", desc := "(I)Z" } : Jvm.MethodName)) ∈ lw_all := lw_g (lw_at lw_m3 38 rfl) rfl
theorem q680 : (Jvm.Cond.code ({ cls := "GardenChess", name := "isDigit", desc := "(I)Z" } : Jvm.MethodName) prog_1_method_5_code (1 : Nat) (Option.some Jvm.ClassFile.FieldType.boolean)) ∈ lw_all := lw_g (lw_at lw_m3 39 rfl) rfl
theorem q771 : (Jvm.Cond.static ({ cls := "GardenChess", name := "is", desc := "(III)Z" } : Jvm.MethodName)) ∈ lw_all := lw_g (lw_at lw_m3 130 rfl) rfl
theorem q772 : (Jvm.Cond.code ({ cls := "GardenChess", name := "is", desc := "(III)Z" } : Jvm.MethodName) prog_1_method_1_code (3 : Nat) (Option.some Jvm.ClassFile.FieldType.boolean)) ∈ lw_all := lw_g (lw_at lw_m3 131 rfl) rfl
theorem q862 : (Jvm.Cond.laysStatic "GardenChess" "OWN" "[Ljava/lang/String;") ∈ lw_tbl := lw_at lw_m3 221 rfl
theorem q864 : (Jvm.Cond.static ({ cls := "GardenChess", name := "find", desc := "(Ljava/lang/String;[Ljava/lang/String;)I" } : Jvm.MethodName)) ∈ lw_all := lw_g (lw_at lw_m3 223 rfl) rfl
theorem q865 : (Jvm.Cond.code ({ cls := "GardenChess", name := "find", desc := "(Ljava/lang/String;[Ljava/lang/String;)I" } : Jvm.MethodName) prog_1_method_6_code (3 : Nat) (Option.some Jvm.ClassFile.FieldType.int)) ∈ lw_all := lw_g (lw_at lw_m3 224 rfl) rfl
theorem q866 : (Jvm.Cond.methodLink "GardenChess" (16 : Nat) ({ cls := "java/lang/String", name := "equals", desc := "(Ljava/lang/Object;)Z" } : Jvm.MethodName)) ∈ lw_all := lw_g (lw_at lw_m3 225 rfl) rfl
theorem q902 : (Jvm.Cond.fieldLinkNest "GardenChess" (232 : Nat) "GardenChess$Kind" "ways" "I" "GardenChess") ∈ lw_tbl := lw_at lw_m4 21 rfl
theorem q905 : (Jvm.Cond.fieldLinkNest "GardenChess" (235 : Nat) "GardenChess$Kind" "reach" "I" "GardenChess") ∈ lw_tbl := lw_at lw_m4 24 rfl
theorem q908 : (Jvm.Cond.fieldLinkNest "GardenChess" (238 : Nat) "GardenChess$Kind" "worth" "I" "GardenChess") ∈ lw_tbl := lw_at lw_m4 27 rfl
theorem q911 : (Jvm.Cond.fieldLinkNest "GardenChess" (241 : Nat) "GardenChess$Kind" "isCrown" "Z" "GardenChess") ∈ lw_tbl := lw_at lw_m4 30 rfl
theorem q968 : (Jvm.Cond.selects "GardenChess" ({ cls := "java/lang/Object", name := "getClass", desc := "()Ljava/lang/Class;" } : Jvm.MethodName) ({ cls := "java/lang/Object", name := "getClass", desc := "()Ljava/lang/Class;" } : Jvm.MethodName)) ∈ lw_all := lw_g (lw_at lw_m4 87 rfl) rfl
theorem q1034 : (Jvm.Cond.fieldLinkNest "GardenChess" (196 : Nat) "GardenChess$Man" "kind" "I" "GardenChess") ∈ lw_tbl := lw_at lw_m4 153 rfl
theorem q1037 : (Jvm.Cond.fieldLinkNest "GardenChess" (251 : Nat) "GardenChess$Man" "side" "I" "GardenChess") ∈ lw_tbl := lw_at lw_m4 156 rfl
theorem q1063 : (Jvm.Cond.fieldLinkNest "GardenChess" (260 : Nat) "GardenChess$Field" "column" "I" "GardenChess") ∈ lw_tbl := lw_at lw_m4 182 rfl
theorem q1066 : (Jvm.Cond.fieldLinkNest "GardenChess" (263 : Nat) "GardenChess$Field" "row" "I" "GardenChess") ∈ lw_tbl := lw_at lw_m4 185 rfl
theorem q1165 : (Jvm.Cond.laysStatic "GardenChess" "ASKED" "[Ljava/lang/String;") ∈ lw_tbl := lw_at lw_m5 44 rfl
theorem q1167 : (Jvm.Cond.static ({ cls := "GardenChess", name := "has", desc := "(II)Z" } : Jvm.MethodName)) ∈ lw_all := lw_g (lw_at lw_m5 46 rfl) rfl
theorem q1168 : (Jvm.Cond.code ({ cls := "GardenChess", name := "has", desc := "(II)Z" } : Jvm.MethodName) prog_1_method_2_code (2 : Nat) (Option.some Jvm.ClassFile.FieldType.boolean)) ∈ lw_all := lw_g (lw_at lw_m5 47 rfl) rfl
theorem q1180 : (Jvm.Cond.laysStatic "GardenChess" "LOOKED" "[Ljava/lang/String;") ∈ lw_tbl := lw_at lw_m5 59 rfl
theorem q1268 : (Jvm.Cond.methodLink "GardenChess" (147 : Nat) ({ cls := "GardenChess$State", name := "begins", desc := "()V" } : Jvm.MethodName)) ∈ lw_all := lw_g (lw_at lw_m5 147 rfl) rfl
theorem q1274 : (Jvm.Cond.privateMethod ({ cls := "GardenChess", name := "fields", desc := "()I" } : Jvm.MethodName)) ∈ lw_tbl := lw_at lw_m5 153 rfl
theorem q1275 : (Jvm.Cond.instanceMethod ({ cls := "GardenChess", name := "fields", desc := "()I" } : Jvm.MethodName)) ∈ lw_all := lw_g (lw_at lw_m5 154 rfl) rfl
theorem q1276 : (Jvm.Cond.code ({ cls := "GardenChess", name := "fields", desc := "()I" } : Jvm.MethodName) prog_1_method_17_code (1 : Nat) (Option.some Jvm.ClassFile.FieldType.int)) ∈ lw_all := lw_g (lw_at lw_m5 155 rfl) rfl
theorem q1282 : (Jvm.Cond.instanceMethod ({ cls := "GardenChess", name := "fault", desc := "(I)I" } : Jvm.MethodName)) ∈ lw_all := lw_g (lw_at lw_m5 161 rfl) rfl
theorem q1283 : (Jvm.Cond.selects "GardenChess" ({ cls := "GardenChess", name := "fault", desc := "(I)I" } : Jvm.MethodName) ({ cls := "GardenChess", name := "fault", desc := "(I)I" } : Jvm.MethodName)) ∈ lw_all := lw_g (lw_at lw_m5 162 rfl) rfl
theorem q1284 : (Jvm.Cond.code ({ cls := "GardenChess", name := "fault", desc := "(I)I" } : Jvm.MethodName) prog_1_method_14_code (2 : Nat) (Option.some Jvm.ClassFile.FieldType.int)) ∈ lw_all := lw_g (lw_at lw_m5 163 rfl) rfl
theorem q1286 : (Jvm.Cond.instanceMethod ({ cls := "GardenChess", name := "has", desc := "(I)I" } : Jvm.MethodName)) ∈ lw_all := lw_g (lw_at lw_m5 165 rfl) rfl
theorem q1287 : (Jvm.Cond.selects "GardenChess" ({ cls := "GardenChess", name := "has", desc := "(I)I" } : Jvm.MethodName) ({ cls := "GardenChess", name := "has", desc := "(I)I" } : Jvm.MethodName)) ∈ lw_all := lw_g (lw_at lw_m5 166 rfl) rfl
theorem q1288 : (Jvm.Cond.code ({ cls := "GardenChess", name := "has", desc := "(I)I" } : Jvm.MethodName) prog_1_method_24_code (2 : Nat) (Option.some Jvm.ClassFile.FieldType.int)) ∈ lw_all := lw_g (lw_at lw_m5 167 rfl) rfl
theorem q1289 : (Jvm.Cond.methodLink "GardenChess" (174 : Nat) ({ cls := "GardenChess", name := "men", desc := "()I" } : Jvm.MethodName)) ∈ lw_all := lw_g (lw_at lw_m5 168 rfl) rfl
theorem q1290 : (Jvm.Cond.methodLink "GardenChess" (176 : Nat) ({ cls := "GardenChess", name := "fields", desc := "()I" } : Jvm.MethodName)) ∈ lw_all := lw_g (lw_at lw_m5 169 rfl) rfl
theorem q1291 : (Jvm.Cond.methodLink "GardenChess" (211 : Nat) ({ cls := "GardenChess", name := "isBoard", desc := "()Z" } : Jvm.MethodName)) ∈ lw_all := lw_g (lw_at lw_m5 170 rfl) rfl
theorem q1292 : (Jvm.Cond.privateMethod ({ cls := "GardenChess", name := "isBoard", desc := "()Z" } : Jvm.MethodName)) ∈ lw_tbl := lw_at lw_m5 171 rfl
theorem q1293 : (Jvm.Cond.instanceMethod ({ cls := "GardenChess", name := "isBoard", desc := "()Z" } : Jvm.MethodName)) ∈ lw_all := lw_g (lw_at lw_m5 172 rfl) rfl
theorem q1294 : (Jvm.Cond.code ({ cls := "GardenChess", name := "isBoard", desc := "()Z" } : Jvm.MethodName) prog_1_method_15_code (1 : Nat) (Option.some Jvm.ClassFile.FieldType.boolean)) ∈ lw_all := lw_g (lw_at lw_m5 173 rfl) rfl
theorem q1295 : (Jvm.Cond.methodLink "GardenChess" (215 : Nat) ({ cls := "GardenChess$State", name := "isOver", desc := "()Z" } : Jvm.MethodName)) ∈ lw_all := lw_g (lw_at lw_m5 174 rfl) rfl
theorem q1318 : (Jvm.Cond.methodLink "GardenChess" (218 : Nat) ({ cls := "GardenChess$State", name := "left", desc := "(I)I" } : Jvm.MethodName)) ∈ lw_all := lw_g (lw_at lw_m5 197 rfl) rfl
theorem q1322 : (Jvm.Cond.methodLink "GardenChess" (221 : Nat) ({ cls := "GardenChess$State", name := "allBears", desc := "()I" } : Jvm.MethodName)) ∈ lw_all := lw_g (lw_at lw_m5 201 rfl) rfl
theorem q1327 : (Jvm.Cond.instanceMethod ({ cls := "GardenChess", name := "letter", desc := "(III)I" } : Jvm.MethodName)) ∈ lw_all := lw_g (lw_at lw_m5 206 rfl) rfl
theorem q1328 : (Jvm.Cond.selects "GardenChess" ({ cls := "GardenChess", name := "letter", desc := "(III)I" } : Jvm.MethodName) ({ cls := "GardenChess", name := "letter", desc := "(III)I" } : Jvm.MethodName)) ∈ lw_all := lw_g (lw_at lw_m5 207 rfl) rfl
theorem q1329 : (Jvm.Cond.code ({ cls := "GardenChess", name := "letter", desc := "(III)I" } : Jvm.MethodName) prog_1_method_25_code (5 : Nat) (Option.some Jvm.ClassFile.FieldType.int)) ∈ lw_all := lw_g (lw_at lw_m5 208 rfl) rfl
theorem q1330 : (Jvm.Cond.methodLink "GardenChess" (178 : Nat) ({ cls := "GardenChess", name := "is", desc := "(III)Z" } : Jvm.MethodName)) ∈ lw_all := lw_g (lw_at lw_m5 209 rfl) rfl
theorem q1331 : (Jvm.Cond.classLink "GardenChess" (227 : Nat) "GardenChess$Named") ∈ lw_all := lw_g (lw_at lw_m5 210 rfl) rfl
theorem q1332 : (Jvm.Cond.methodLink "GardenChess" (229 : Nat) ({ cls := "GardenChess$Named", name := "letter", desc := "(I)I" } : Jvm.MethodName)) ∈ lw_all := lw_g (lw_at lw_m5 211 rfl) rfl
theorem q1352 : (Jvm.Cond.instanceMethod ({ cls := "GardenChess", name := "kind", desc := "(II)I" } : Jvm.MethodName)) ∈ lw_all := lw_g (lw_at lw_m5 231 rfl) rfl
theorem q1353 : (Jvm.Cond.selects "GardenChess" ({ cls := "GardenChess", name := "kind", desc := "(II)I" } : Jvm.MethodName) ({ cls := "GardenChess", name := "kind", desc := "(II)I" } : Jvm.MethodName)) ∈ lw_all := lw_g (lw_at lw_m5 232 rfl) rfl
theorem q1354 : (Jvm.Cond.code ({ cls := "GardenChess", name := "kind", desc := "(II)I" } : Jvm.MethodName) prog_1_method_26_code (4 : Nat) (Option.some Jvm.ClassFile.FieldType.int)) ∈ lw_all := lw_g (lw_at lw_m5 233 rfl) rfl
theorem q1356 : (Jvm.Cond.instanceMethod ({ cls := "GardenChess", name := "man", desc := "(II)I" } : Jvm.MethodName)) ∈ lw_all := lw_g (lw_at lw_m5 235 rfl) rfl
theorem q1357 : (Jvm.Cond.selects "GardenChess" ({ cls := "GardenChess", name := "man", desc := "(II)I" } : Jvm.MethodName) ({ cls := "GardenChess", name := "man", desc := "(II)I" } : Jvm.MethodName)) ∈ lw_all := lw_g (lw_at lw_m5 236 rfl) rfl
theorem q1358 : (Jvm.Cond.code ({ cls := "GardenChess", name := "man", desc := "(II)I" } : Jvm.MethodName) prog_1_method_27_code (4 : Nat) (Option.some Jvm.ClassFile.FieldType.int)) ∈ lw_all := lw_g (lw_at lw_m5 237 rfl) rfl
theorem q1359 : (Jvm.Cond.methodLink "GardenChess" (245 : Nat) ({ cls := "GardenChess", name := "isMan", desc := "(I)Z" } : Jvm.MethodName)) ∈ lw_all := lw_g (lw_at lw_m5 238 rfl) rfl
theorem q1360 : (Jvm.Cond.privateMethod ({ cls := "GardenChess", name := "isMan", desc := "(I)Z" } : Jvm.MethodName)) ∈ lw_tbl := lw_at lw_m5 239 rfl
theorem q1361 : (Jvm.Cond.instanceMethod ({ cls := "GardenChess", name := "isMan", desc := "(I)Z" } : Jvm.MethodName)) ∈ lw_all := lw_g (lw_at lw_m6 0 rfl) rfl
theorem q1362 : (Jvm.Cond.code ({ cls := "GardenChess", name := "isMan", desc := "(I)Z" } : Jvm.MethodName) prog_1_method_18_code (2 : Nat) (Option.some Jvm.ClassFile.FieldType.boolean)) ∈ lw_all := lw_g (lw_at lw_m6 1 rfl) rfl
theorem q1363 : (Jvm.Cond.methodLink "GardenChess" (252 : Nat) ({ cls := "GardenChess$State", name := "many", desc := "(I)I" } : Jvm.MethodName)) ∈ lw_all := lw_g (lw_at lw_m6 2 rfl) rfl
theorem q1368 : (Jvm.Cond.instanceMethod ({ cls := "GardenChess", name := "field", desc := "(II)I" } : Jvm.MethodName)) ∈ lw_all := lw_g (lw_at lw_m6 7 rfl) rfl
theorem q1369 : (Jvm.Cond.selects "GardenChess" ({ cls := "GardenChess", name := "field", desc := "(II)I" } : Jvm.MethodName) ({ cls := "GardenChess", name := "field", desc := "(II)I" } : Jvm.MethodName)) ∈ lw_all := lw_g (lw_at lw_m6 8 rfl) rfl
theorem q1370 : (Jvm.Cond.code ({ cls := "GardenChess", name := "field", desc := "(II)I" } : Jvm.MethodName) prog_1_method_28_code (4 : Nat) (Option.some Jvm.ClassFile.FieldType.int)) ∈ lw_all := lw_g (lw_at lw_m6 9 rfl) rfl
theorem q1371 : (Jvm.Cond.methodLink "GardenChess" (255 : Nat) ({ cls := "GardenChess", name := "isField", desc := "(I)Z" } : Jvm.MethodName)) ∈ lw_all := lw_g (lw_at lw_m6 10 rfl) rfl
theorem q1372 : (Jvm.Cond.privateMethod ({ cls := "GardenChess", name := "isField", desc := "(I)Z" } : Jvm.MethodName)) ∈ lw_tbl := lw_at lw_m6 11 rfl
theorem q1373 : (Jvm.Cond.instanceMethod ({ cls := "GardenChess", name := "isField", desc := "(I)Z" } : Jvm.MethodName)) ∈ lw_all := lw_g (lw_at lw_m6 12 rfl) rfl
theorem q1374 : (Jvm.Cond.code ({ cls := "GardenChess", name := "isField", desc := "(I)Z" } : Jvm.MethodName) prog_1_method_19_code (2 : Nat) (Option.some Jvm.ClassFile.FieldType.boolean)) ∈ lw_all := lw_g (lw_at lw_m6 13 rfl) rfl
theorem q1375 : (Jvm.Cond.classLink "GardenChess" (258 : Nat) "GardenChess$Field") ∈ lw_all := lw_g (lw_at lw_m6 14 rfl) rfl
theorem q1377 : (Jvm.Cond.instanceMethod ({ cls := "GardenChess", name := "at", desc := "(II)I" } : Jvm.MethodName)) ∈ lw_all := lw_g (lw_at lw_m6 16 rfl) rfl
theorem q1378 : (Jvm.Cond.selects "GardenChess" ({ cls := "GardenChess", name := "at", desc := "(II)I" } : Jvm.MethodName) ({ cls := "GardenChess", name := "at", desc := "(II)I" } : Jvm.MethodName)) ∈ lw_all := lw_g (lw_at lw_m6 17 rfl) rfl
theorem q1379 : (Jvm.Cond.code ({ cls := "GardenChess", name := "at", desc := "(II)I" } : Jvm.MethodName) prog_1_method_29_code (3 : Nat) (Option.some Jvm.ClassFile.FieldType.int)) ∈ lw_all := lw_g (lw_at lw_m6 18 rfl) rfl
theorem q1380 : (Jvm.Cond.methodLink "GardenChess" (269 : Nat) ({ cls := "GardenChess", name := "isIn", desc := "(II)Z" } : Jvm.MethodName)) ∈ lw_all := lw_g (lw_at lw_m6 19 rfl) rfl
theorem q1381 : (Jvm.Cond.privateMethod ({ cls := "GardenChess", name := "isIn", desc := "(II)Z" } : Jvm.MethodName)) ∈ lw_tbl := lw_at lw_m6 20 rfl
theorem q1382 : (Jvm.Cond.instanceMethod ({ cls := "GardenChess", name := "isIn", desc := "(II)Z" } : Jvm.MethodName)) ∈ lw_all := lw_g (lw_at lw_m6 21 rfl) rfl
theorem q1383 : (Jvm.Cond.code ({ cls := "GardenChess", name := "isIn", desc := "(II)Z" } : Jvm.MethodName) prog_1_method_20_code (3 : Nat) (Option.some Jvm.ClassFile.FieldType.boolean)) ∈ lw_all := lw_g (lw_at lw_m6 22 rfl) rfl
theorem q1385 : (Jvm.Cond.instanceMethod ({ cls := "GardenChess", name := "option", desc := "(II)I" } : Jvm.MethodName)) ∈ lw_all := lw_g (lw_at lw_m6 24 rfl) rfl
theorem q1386 : (Jvm.Cond.selects "GardenChess" ({ cls := "GardenChess", name := "option", desc := "(II)I" } : Jvm.MethodName) ({ cls := "GardenChess", name := "option", desc := "(II)I" } : Jvm.MethodName)) ∈ lw_all := lw_g (lw_at lw_m6 25 rfl) rfl
theorem q1387 : (Jvm.Cond.code ({ cls := "GardenChess", name := "option", desc := "(II)I" } : Jvm.MethodName) prog_1_method_31_code (4 : Nat) (Option.some Jvm.ClassFile.FieldType.int)) ∈ lw_all := lw_g (lw_at lw_m6 26 rfl) rfl
theorem q1388 : (Jvm.Cond.methodLink "GardenChess" (285 : Nat) ({ cls := "GardenChess", name := "finds", desc := "()I" } : Jvm.MethodName)) ∈ lw_all := lw_g (lw_at lw_m6 27 rfl) rfl
theorem q1389 : (Jvm.Cond.privateMethod ({ cls := "GardenChess", name := "finds", desc := "()I" } : Jvm.MethodName)) ∈ lw_tbl := lw_at lw_m6 28 rfl
theorem q1390 : (Jvm.Cond.instanceMethod ({ cls := "GardenChess", name := "finds", desc := "()I" } : Jvm.MethodName)) ∈ lw_all := lw_g (lw_at lw_m6 29 rfl) rfl
theorem q1391 : (Jvm.Cond.code ({ cls := "GardenChess", name := "finds", desc := "()I" } : Jvm.MethodName) prog_1_method_30_code (1 : Nat) (Option.some Jvm.ClassFile.FieldType.int)) ∈ lw_all := lw_g (lw_at lw_m6 30 rfl) rfl
theorem q1392 : (Jvm.Cond.methodLink "GardenChess" (281 : Nat) ({ cls := "GardenChess$State", name := "finds", desc := "(ILGardenChess$Moves;)V" } : Jvm.MethodName)) ∈ lw_all := lw_g (lw_at lw_m6 31 rfl) rfl
theorem q1393 : (Jvm.Cond.methodLink "GardenChess" (291 : Nat) ({ cls := "GardenChess$State", name := "copy", desc := "(LGardenChess$State;)LGardenChess$State;" } : Jvm.MethodName)) ∈ lw_all := lw_g (lw_at lw_m6 32 rfl) rfl
theorem q1397 : (Jvm.Cond.methodLink "GardenChess" (295 : Nat) ({ cls := "GardenChess$State", name := "moves", desc := "(II)I" } : Jvm.MethodName)) ∈ lw_all := lw_g (lw_at lw_m6 36 rfl) rfl
theorem q1401 : (Jvm.Cond.methodLink "GardenChess" (298 : Nat) ({ cls := "GardenChess$State", name := "isCheck", desc := "()Z" } : Jvm.MethodName)) ∈ lw_all := lw_g (lw_at lw_m6 40 rfl) rfl
theorem q1406 : (Jvm.Cond.instanceMethod ({ cls := "GardenChess", name := "kept", desc := "(II)I" } : Jvm.MethodName)) ∈ lw_all := lw_g (lw_at lw_m6 45 rfl) rfl
theorem q1407 : (Jvm.Cond.selects "GardenChess" ({ cls := "GardenChess", name := "kept", desc := "(II)I" } : Jvm.MethodName) ({ cls := "GardenChess", name := "kept", desc := "(II)I" } : Jvm.MethodName)) ∈ lw_all := lw_g (lw_at lw_m6 46 rfl) rfl
theorem q1408 : (Jvm.Cond.code ({ cls := "GardenChess", name := "kept", desc := "(II)I" } : Jvm.MethodName) prog_1_method_32_code (3 : Nat) (Option.some Jvm.ClassFile.FieldType.int)) ∈ lw_all := lw_g (lw_at lw_m6 47 rfl) rfl
theorem q1410 : (Jvm.Cond.instanceMethod ({ cls := "GardenChess", name := "balance", desc := "(I)J" } : Jvm.MethodName)) ∈ lw_all := lw_g (lw_at lw_m6 49 rfl) rfl
theorem q1411 : (Jvm.Cond.selects "GardenChess" ({ cls := "GardenChess", name := "balance", desc := "(I)J" } : Jvm.MethodName) ({ cls := "GardenChess", name := "balance", desc := "(I)J" } : Jvm.MethodName)) ∈ lw_all := lw_g (lw_at lw_m6 50 rfl) rfl
theorem q1412 : (Jvm.Cond.code ({ cls := "GardenChess", name := "balance", desc := "(I)J" } : Jvm.MethodName) prog_1_method_33_code (2 : Nat) (Option.some Jvm.ClassFile.FieldType.long)) ∈ lw_all := lw_g (lw_at lw_m6 51 rfl) rfl
theorem q1413 : (Jvm.Cond.methodLink "GardenChess" (304 : Nat) ({ cls := "GardenChess$State", name := "balance", desc := "(I)I" } : Jvm.MethodName)) ∈ lw_all := lw_g (lw_at lw_m6 52 rfl) rfl
theorem q1417 : (Jvm.Cond.constantLong "GardenChess" (307 : Nat) (-1000000000000000 : Int64)) ∈ lw_all := lw_g (lw_at lw_m6 56 rfl) rfl
theorem q1419 : (Jvm.Cond.instanceMethod ({ cls := "GardenChess", name := "value", desc := "(I)J" } : Jvm.MethodName)) ∈ lw_all := lw_g (lw_at lw_m6 58 rfl) rfl
theorem q1420 : (Jvm.Cond.selects "GardenChess" ({ cls := "GardenChess", name := "value", desc := "(I)J" } : Jvm.MethodName) ({ cls := "GardenChess", name := "value", desc := "(I)J" } : Jvm.MethodName)) ∈ lw_all := lw_g (lw_at lw_m6 59 rfl) rfl
theorem q1421 : (Jvm.Cond.code ({ cls := "GardenChess", name := "value", desc := "(I)J" } : Jvm.MethodName) prog_1_method_34_code (2 : Nat) (Option.some Jvm.ClassFile.FieldType.long)) ∈ lw_all := lw_g (lw_at lw_m6 60 rfl) rfl
theorem q1422 : (Jvm.Cond.methodLink "GardenChess" (309 : Nat) ({ cls := "GardenChess$State", name := "value", desc := "(I)I" } : Jvm.MethodName)) ∈ lw_all := lw_g (lw_at lw_m6 61 rfl) rfl
theorem q1439 : (Jvm.Cond.instanceMethod ({ cls := "GardenChess", name := "best", desc := "(I)I" } : Jvm.MethodName)) ∈ lw_all := lw_g (lw_at lw_m6 78 rfl) rfl
theorem q1440 : (Jvm.Cond.selects "GardenChess" ({ cls := "GardenChess", name := "best", desc := "(I)I" } : Jvm.MethodName) ({ cls := "GardenChess", name := "best", desc := "(I)I" } : Jvm.MethodName)) ∈ lw_all := lw_g (lw_at lw_m6 79 rfl) rfl
theorem q1441 : (Jvm.Cond.code ({ cls := "GardenChess", name := "best", desc := "(I)I" } : Jvm.MethodName) prog_1_method_35_code (2 : Nat) (Option.some Jvm.ClassFile.FieldType.int)) ∈ lw_all := lw_g (lw_at lw_m6 80 rfl) rfl
theorem q1442 : (Jvm.Cond.methodLink "GardenChess" (312 : Nat) ({ cls := "GardenChess$State", name := "best", desc := "(I)I" } : Jvm.MethodName)) ∈ lw_all := lw_g (lw_at lw_m6 81 rfl) rfl
theorem q1448 : (Jvm.Cond.instanceMethod ({ cls := "GardenChess", name := "forced", desc := "()I" } : Jvm.MethodName)) ∈ lw_all := lw_g (lw_at lw_m6 87 rfl) rfl
theorem q1449 : (Jvm.Cond.selects "GardenChess" ({ cls := "GardenChess", name := "forced", desc := "()I" } : Jvm.MethodName) ({ cls := "GardenChess", name := "forced", desc := "()I" } : Jvm.MethodName)) ∈ lw_all := lw_g (lw_at lw_m6 88 rfl) rfl
theorem q1450 : (Jvm.Cond.code ({ cls := "GardenChess", name := "forced", desc := "()I" } : Jvm.MethodName) prog_1_method_38_code (2 : Nat) (Option.some Jvm.ClassFile.FieldType.int)) ∈ lw_all := lw_g (lw_at lw_m6 89 rfl) rfl
theorem q1451 : (Jvm.Cond.methodLink "GardenChess" (319 : Nat) ({ cls := "GardenChess", name := "takes", desc := "(LGardenChess$State;LGardenChess$Moves;)Z" } : Jvm.MethodName)) ∈ lw_all := lw_g (lw_at lw_m6 90 rfl) rfl
theorem q1452 : (Jvm.Cond.privateMethod ({ cls := "GardenChess", name := "takes", desc := "(LGardenChess$State;LGardenChess$Moves;)Z" } : Jvm.MethodName)) ∈ lw_tbl := lw_at lw_m6 91 rfl
theorem q1453 : (Jvm.Cond.instanceMethod ({ cls := "GardenChess", name := "takes", desc := "(LGardenChess$State;LGardenChess$Moves;)Z" } : Jvm.MethodName)) ∈ lw_all := lw_g (lw_at lw_m6 92 rfl) rfl
theorem q1454 : (Jvm.Cond.code ({ cls := "GardenChess", name := "takes", desc := "(LGardenChess$State;LGardenChess$Moves;)Z" } : Jvm.MethodName) prog_1_method_36_code (5 : Nat) (Option.some Jvm.ClassFile.FieldType.boolean)) ∈ lw_all := lw_g (lw_at lw_m6 93 rfl) rfl
theorem q1455 : (Jvm.Cond.methodLink "GardenChess" (315 : Nat) ({ cls := "GardenChess", name := "kindOf", desc := "(I)LGardenChess$Kind;" } : Jvm.MethodName)) ∈ lw_all := lw_g (lw_at lw_m6 94 rfl) rfl
theorem q1456 : (Jvm.Cond.methodLink "GardenChess" (327 : Nat) ({ cls := "GardenChess", name := "isForcedBy", desc := "(I)Z" } : Jvm.MethodName)) ∈ lw_all := lw_g (lw_at lw_m6 95 rfl) rfl
theorem q1457 : (Jvm.Cond.privateMethod ({ cls := "GardenChess", name := "isForcedBy", desc := "(I)Z" } : Jvm.MethodName)) ∈ lw_tbl := lw_at lw_m6 96 rfl
theorem q1458 : (Jvm.Cond.instanceMethod ({ cls := "GardenChess", name := "isForcedBy", desc := "(I)Z" } : Jvm.MethodName)) ∈ lw_all := lw_g (lw_at lw_m6 97 rfl) rfl
theorem q1459 : (Jvm.Cond.code ({ cls := "GardenChess", name := "isForcedBy", desc := "(I)Z" } : Jvm.MethodName) prog_1_method_37_code (8 : Nat) (Option.some Jvm.ClassFile.FieldType.boolean)) ∈ lw_all := lw_g (lw_at lw_m6 98 rfl) rfl
theorem q1460 : (Jvm.Cond.methodLink "GardenChess" (323 : Nat) ({ cls := "GardenChess$State", name := "movesBack", desc := "(III)V" } : Jvm.MethodName)) ∈ lw_all := lw_g (lw_at lw_m6 99 rfl) rfl
theorem q1462 : (Jvm.Cond.instanceMethod ({ cls := "GardenChess", name := "later", desc := "(II)I" } : Jvm.MethodName)) ∈ lw_all := lw_g (lw_at lw_m6 101 rfl) rfl
theorem q1463 : (Jvm.Cond.selects "GardenChess" ({ cls := "GardenChess", name := "later", desc := "(II)I" } : Jvm.MethodName) ({ cls := "GardenChess", name := "later", desc := "(II)I" } : Jvm.MethodName)) ∈ lw_all := lw_g (lw_at lw_m6 102 rfl) rfl
theorem q1464 : (Jvm.Cond.code ({ cls := "GardenChess", name := "later", desc := "(II)I" } : Jvm.MethodName) prog_1_method_40_code (3 : Nat) (Option.some Jvm.ClassFile.FieldType.int)) ∈ lw_all := lw_g (lw_at lw_m6 103 rfl) rfl
theorem q1465 : (Jvm.Cond.methodLink "GardenChess" (330 : Nat) ({ cls := "GardenChess", name := "isAhead", desc := "(III)Z" } : Jvm.MethodName)) ∈ lw_all := lw_g (lw_at lw_m6 104 rfl) rfl
theorem q1466 : (Jvm.Cond.privateMethod ({ cls := "GardenChess", name := "isAhead", desc := "(III)Z" } : Jvm.MethodName)) ∈ lw_tbl := lw_at lw_m6 105 rfl
theorem q1467 : (Jvm.Cond.instanceMethod ({ cls := "GardenChess", name := "isAhead", desc := "(III)Z" } : Jvm.MethodName)) ∈ lw_all := lw_g (lw_at lw_m6 106 rfl) rfl
theorem q1468 : (Jvm.Cond.code ({ cls := "GardenChess", name := "isAhead", desc := "(III)Z" } : Jvm.MethodName) prog_1_method_39_code (4 : Nat) (Option.some Jvm.ClassFile.FieldType.boolean)) ∈ lw_all := lw_g (lw_at lw_m6 107 rfl) rfl
theorem q1469 : (Jvm.Cond.methodLink "GardenChess" (333 : Nat) ({ cls := "GardenChess$State", name := "days", desc := "(I)LGardenChess$State;" } : Jvm.MethodName)) ∈ lw_all := lw_g (lw_at lw_m6 108 rfl) rfl
theorem q1492 : (Jvm.Cond.static ({ cls := "GardenChess", name := "off", desc := "(IIII)I" } : Jvm.MethodName)) ∈ lw_all := lw_g (lw_at lw_m6 131 rfl) rfl
theorem q1493 : (Jvm.Cond.code ({ cls := "GardenChess", name := "off", desc := "(IIII)I" } : Jvm.MethodName) prog_1_method_23_code (4 : Nat) (Option.some Jvm.ClassFile.FieldType.int)) ∈ lw_all := lw_g (lw_at lw_m6 132 rfl) rfl
theorem q1494 : (Jvm.Cond.methodLink "GardenChess" (199 : Nat) ({ cls := "java/lang/Math", name := "abs", desc := "(I)I" } : Jvm.MethodName)) ∈ lw_all := lw_g (lw_at lw_m6 133 rfl) rfl
theorem q1495 : (Jvm.Cond.methodLink "GardenChess" (202 : Nat) ({ cls := "java/lang/Math", name := "max", desc := "(II)I" } : Jvm.MethodName)) ∈ lw_all := lw_g (lw_at lw_m6 134 rfl) rfl
theorem q1503 : (Jvm.Cond.static ({ cls := "GardenChess", name := "held", desc := "(J)J" } : Jvm.MethodName)) ∈ lw_all := lw_g (lw_at lw_m6 142 rfl) rfl
theorem q1504 : (Jvm.Cond.code ({ cls := "GardenChess", name := "held", desc := "(J)J" } : Jvm.MethodName) prog_1_method_3_code (2 : Nat) (Option.some Jvm.ClassFile.FieldType.long)) ∈ lw_all := lw_g (lw_at lw_m6 143 rfl) rfl
theorem q1505 : (Jvm.Cond.constantLong "GardenChess" (3 : Nat) (-1000000 : Int64)) ∈ lw_all := lw_g (lw_at lw_m6 144 rfl) rfl
theorem q1506 : (Jvm.Cond.constantLong "GardenChess" (5 : Nat) (1000000 : Int64)) ∈ lw_all := lw_g (lw_at lw_m6 145 rfl) rfl
theorem q1507 : (Jvm.Cond.methodLink "GardenChess" (7 : Nat) ({ cls := "java/lang/Math", name := "min", desc := "(JJ)J" } : Jvm.MethodName)) ∈ lw_all := lw_g (lw_at lw_m6 146 rfl) rfl
theorem q1510 : (Jvm.Cond.methodLink "GardenChess" (13 : Nat) ({ cls := "java/lang/Math", name := "max", desc := "(JJ)J" } : Jvm.MethodName)) ∈ lw_all := lw_g (lw_at lw_m6 149 rfl) rfl
theorem q1529 : (Jvm.Cond.privateMethod ({ cls := "GardenChess", name := "looked", desc := "(IJ)J" } : Jvm.MethodName)) ∈ lw_tbl := lw_at lw_m6 168 rfl
theorem q1530 : (Jvm.Cond.instanceMethod ({ cls := "GardenChess", name := "looked", desc := "(IJ)J" } : Jvm.MethodName)) ∈ lw_all := lw_g (lw_at lw_m6 169 rfl) rfl
theorem q1531 : (Jvm.Cond.code ({ cls := "GardenChess", name := "looked", desc := "(IJ)J" } : Jvm.MethodName) prog_1_method_61_code (5 : Nat) (Option.some Jvm.ClassFile.FieldType.long)) ∈ lw_all := lw_g (lw_at lw_m6 170 rfl) rfl
theorem q1532 : (Jvm.Cond.methodLink "GardenChess" (390 : Nat) ({ cls := "GardenChess", name := "off", desc := "(IIII)I" } : Jvm.MethodName)) ∈ lw_all := lw_g (lw_at lw_m6 171 rfl) rfl
theorem q1559 : (Jvm.Cond.instanceMethod ({ cls := "GardenChess", name := "crop", desc := "(II)I" } : Jvm.MethodName)) ∈ lw_all := lw_g (lw_at lw_m6 198 rfl) rfl
theorem q1560 : (Jvm.Cond.selects "GardenChess" ({ cls := "GardenChess", name := "crop", desc := "(II)I" } : Jvm.MethodName) ({ cls := "GardenChess", name := "crop", desc := "(II)I" } : Jvm.MethodName)) ∈ lw_all := lw_g (lw_at lw_m6 199 rfl) rfl
theorem q1561 : (Jvm.Cond.code ({ cls := "GardenChess", name := "crop", desc := "(II)I" } : Jvm.MethodName) prog_1_method_41_code (3 : Nat) (Option.some Jvm.ClassFile.FieldType.int)) ∈ lw_all := lw_g (lw_at lw_m6 200 rfl) rfl
theorem q1563 : (Jvm.Cond.instanceMethod ({ cls := "GardenChess", name := "spare", desc := "(III)I" } : Jvm.MethodName)) ∈ lw_all := lw_g (lw_at lw_m6 202 rfl) rfl
theorem q1564 : (Jvm.Cond.selects "GardenChess" ({ cls := "GardenChess", name := "spare", desc := "(III)I" } : Jvm.MethodName) ({ cls := "GardenChess", name := "spare", desc := "(III)I" } : Jvm.MethodName)) ∈ lw_all := lw_g (lw_at lw_m6 203 rfl) rfl
theorem q1565 : (Jvm.Cond.code ({ cls := "GardenChess", name := "spare", desc := "(III)I" } : Jvm.MethodName) prog_1_method_42_code (7 : Nat) (Option.some Jvm.ClassFile.FieldType.int)) ∈ lw_all := lw_g (lw_at lw_m6 204 rfl) rfl
theorem q1566 : (Jvm.Cond.methodLink "GardenChess" (337 : Nat) ({ cls := "GardenChess$State", name := "passes", desc := "(I)I" } : Jvm.MethodName)) ∈ lw_all := lw_g (lw_at lw_m6 205 rfl) rfl
theorem q1568 : (Jvm.Cond.instanceMethod ({ cls := "GardenChess", name := "sow", desc := "(II)I" } : Jvm.MethodName)) ∈ lw_all := lw_g (lw_at lw_m6 207 rfl) rfl
theorem q1569 : (Jvm.Cond.selects "GardenChess" ({ cls := "GardenChess", name := "sow", desc := "(II)I" } : Jvm.MethodName) ({ cls := "GardenChess", name := "sow", desc := "(II)I" } : Jvm.MethodName)) ∈ lw_all := lw_g (lw_at lw_m6 208 rfl) rfl
theorem q1570 : (Jvm.Cond.code ({ cls := "GardenChess", name := "sow", desc := "(II)I" } : Jvm.MethodName) prog_1_method_43_code (5 : Nat) (Option.some Jvm.ClassFile.FieldType.int)) ∈ lw_all := lw_g (lw_at lw_m6 209 rfl) rfl
theorem q1571 : (Jvm.Cond.methodLink "GardenChess" (340 : Nat) ({ cls := "GardenChess$State", name := "harmAt", desc := "(II)I" } : Jvm.MethodName)) ∈ lw_all := lw_g (lw_at lw_m6 210 rfl) rfl
theorem q1572 : (Jvm.Cond.constantLong "GardenChess" (343 : Nat) (999999 : Int64)) ∈ lw_all := lw_g (lw_at lw_m6 211 rfl) rfl
theorem q1574 : (Jvm.Cond.instanceMethod ({ cls := "GardenChess", name := "deeper", desc := "(III)J" } : Jvm.MethodName)) ∈ lw_all := lw_g (lw_at lw_m6 213 rfl) rfl
theorem q1575 : (Jvm.Cond.selects "GardenChess" ({ cls := "GardenChess", name := "deeper", desc := "(III)J" } : Jvm.MethodName) ({ cls := "GardenChess", name := "deeper", desc := "(III)J" } : Jvm.MethodName)) ∈ lw_all := lw_g (lw_at lw_m6 214 rfl) rfl
theorem q1576 : (Jvm.Cond.code ({ cls := "GardenChess", name := "deeper", desc := "(III)J" } : Jvm.MethodName) prog_1_method_44_code (5 : Nat) (Option.some Jvm.ClassFile.FieldType.long)) ∈ lw_all := lw_g (lw_at lw_m6 215 rfl) rfl
theorem q1577 : (Jvm.Cond.methodLink "GardenChess" (348 : Nat) ({ cls := "GardenChess$State", name := "days", desc := "(III)I" } : Jvm.MethodName)) ∈ lw_all := lw_g (lw_at lw_m6 216 rfl) rfl
theorem q1579 : (Jvm.Cond.instanceMethod ({ cls := "GardenChess", name := "see", desc := "()I" } : Jvm.MethodName)) ∈ lw_all := lw_g (lw_at lw_m6 218 rfl) rfl
theorem q1580 : (Jvm.Cond.selects "GardenChess" ({ cls := "GardenChess", name := "see", desc := "()I" } : Jvm.MethodName) ({ cls := "GardenChess", name := "see", desc := "()I" } : Jvm.MethodName)) ∈ lw_all := lw_g (lw_at lw_m6 219 rfl) rfl
theorem q1581 : (Jvm.Cond.code ({ cls := "GardenChess", name := "see", desc := "()I" } : Jvm.MethodName) prog_1_method_47_code (4 : Nat) (Option.some Jvm.ClassFile.FieldType.int)) ∈ lw_all := lw_g (lw_at lw_m6 220 rfl) rfl
theorem q1582 : (Jvm.Cond.methodLink "GardenChess" (351 : Nat) ({ cls := "GardenChess", name := "byteAt", desc := "(I)I" } : Jvm.MethodName)) ∈ lw_all := lw_g (lw_at lw_m6 221 rfl) rfl
theorem q1583 : (Jvm.Cond.privateMethod ({ cls := "GardenChess", name := "byteAt", desc := "(I)I" } : Jvm.MethodName)) ∈ lw_tbl := lw_at lw_m6 222 rfl
theorem q1584 : (Jvm.Cond.instanceMethod ({ cls := "GardenChess", name := "byteAt", desc := "(I)I" } : Jvm.MethodName)) ∈ lw_all := lw_g (lw_at lw_m6 223 rfl) rfl
theorem q1585 : (Jvm.Cond.code ({ cls := "GardenChess", name := "byteAt", desc := "(I)I" } : Jvm.MethodName) prog_1_method_45_code (2 : Nat) (Option.some Jvm.ClassFile.FieldType.int)) ∈ lw_all := lw_g (lw_at lw_m6 224 rfl) rfl
theorem q1586 : (Jvm.Cond.methodLink "GardenChess" (354 : Nat) ({ cls := "GardenChess", name := "twoAt", desc := "(I)I" } : Jvm.MethodName)) ∈ lw_all := lw_g (lw_at lw_m6 225 rfl) rfl
theorem q1587 : (Jvm.Cond.privateMethod ({ cls := "GardenChess", name := "twoAt", desc := "(I)I" } : Jvm.MethodName)) ∈ lw_tbl := lw_at lw_m6 226 rfl
theorem q1588 : (Jvm.Cond.instanceMethod ({ cls := "GardenChess", name := "twoAt", desc := "(I)I" } : Jvm.MethodName)) ∈ lw_all := lw_g (lw_at lw_m6 227 rfl) rfl
theorem q1589 : (Jvm.Cond.code ({ cls := "GardenChess", name := "twoAt", desc := "(I)I" } : Jvm.MethodName) prog_1_method_46_code (2 : Nat) (Option.some Jvm.ClassFile.FieldType.int)) ∈ lw_all := lw_g (lw_at lw_m6 228 rfl) rfl
theorem q1591 : (Jvm.Cond.instanceMethod ({ cls := "GardenChess", name := "played", desc := "(I)I" } : Jvm.MethodName)) ∈ lw_all := lw_g (lw_at lw_m6 230 rfl) rfl
theorem q1592 : (Jvm.Cond.selects "GardenChess" ({ cls := "GardenChess", name := "played", desc := "(I)I" } : Jvm.MethodName) ({ cls := "GardenChess", name := "played", desc := "(I)I" } : Jvm.MethodName)) ∈ lw_all := lw_g (lw_at lw_m6 231 rfl) rfl
theorem q1593 : (Jvm.Cond.code ({ cls := "GardenChess", name := "played", desc := "(I)I" } : Jvm.MethodName) prog_1_method_49_code (7 : Nat) (Option.some Jvm.ClassFile.FieldType.int)) ∈ lw_all := lw_g (lw_at lw_m6 232 rfl) rfl
theorem q1594 : (Jvm.Cond.methodLink "GardenChess" (357 : Nat) ({ cls := "GardenChess", name := "isAsSeen", desc := "(I)Z" } : Jvm.MethodName)) ∈ lw_all := lw_g (lw_at lw_m6 233 rfl) rfl
theorem q1595 : (Jvm.Cond.privateMethod ({ cls := "GardenChess", name := "isAsSeen", desc := "(I)Z" } : Jvm.MethodName)) ∈ lw_tbl := lw_at lw_m6 234 rfl
theorem q1596 : (Jvm.Cond.instanceMethod ({ cls := "GardenChess", name := "isAsSeen", desc := "(I)Z" } : Jvm.MethodName)) ∈ lw_all := lw_g (lw_at lw_m6 235 rfl) rfl
theorem q1597 : (Jvm.Cond.code ({ cls := "GardenChess", name := "isAsSeen", desc := "(I)Z" } : Jvm.MethodName) prog_1_method_48_code (3 : Nat) (Option.some Jvm.ClassFile.FieldType.boolean)) ∈ lw_all := lw_g (lw_at lw_m6 236 rfl) rfl
theorem q1599 : (Jvm.Cond.instanceMethod ({ cls := "GardenChess", name := "reached", desc := "(I)I" } : Jvm.MethodName)) ∈ lw_all := lw_g (lw_at lw_m6 238 rfl) rfl
theorem q1600 : (Jvm.Cond.selects "GardenChess" ({ cls := "GardenChess", name := "reached", desc := "(I)I" } : Jvm.MethodName) ({ cls := "GardenChess", name := "reached", desc := "(I)I" } : Jvm.MethodName)) ∈ lw_all := lw_g (lw_at lw_m6 239 rfl) rfl
theorem q1601 : (Jvm.Cond.code ({ cls := "GardenChess", name := "reached", desc := "(I)I" } : Jvm.MethodName) prog_1_method_52_code (3 : Nat) (Option.some Jvm.ClassFile.FieldType.int)) ∈ lw_all := lw_g (lw_at lw_m7 0 rfl) rfl
theorem q1602 : (Jvm.Cond.methodLink "GardenChess" (365 : Nat) ({ cls := "GardenChess", name := "readsMen", desc := "(I[I)Z" } : Jvm.MethodName)) ∈ lw_all := lw_g (lw_at lw_m7 1 rfl) rfl
theorem q1603 : (Jvm.Cond.privateMethod ({ cls := "GardenChess", name := "readsMen", desc := "(I[I)Z" } : Jvm.MethodName)) ∈ lw_tbl := lw_at lw_m7 2 rfl
theorem q1604 : (Jvm.Cond.instanceMethod ({ cls := "GardenChess", name := "readsMen", desc := "(I[I)Z" } : Jvm.MethodName)) ∈ lw_all := lw_g (lw_at lw_m7 3 rfl) rfl
theorem q1605 : (Jvm.Cond.code ({ cls := "GardenChess", name := "readsMen", desc := "(I[I)Z" } : Jvm.MethodName) prog_1_method_50_code (7 : Nat) (Option.some Jvm.ClassFile.FieldType.boolean)) ∈ lw_all := lw_g (lw_at lw_m7 4 rfl) rfl
theorem q1606 : (Jvm.Cond.methodLink "GardenChess" (360 : Nat) ({ cls := "GardenChess", name := "has", desc := "(II)Z" } : Jvm.MethodName)) ∈ lw_all := lw_g (lw_at lw_m7 5 rfl) rfl
theorem q1607 : (Jvm.Cond.methodLink "GardenChess" (363 : Nat) ({ cls := "GardenChess", name := "ways", desc := "(I)I" } : Jvm.MethodName)) ∈ lw_all := lw_g (lw_at lw_m7 6 rfl) rfl
theorem q1608 : (Jvm.Cond.privateMethod ({ cls := "GardenChess", name := "ways", desc := "(I)I" } : Jvm.MethodName)) ∈ lw_tbl := lw_at lw_m7 7 rfl
theorem q1609 : (Jvm.Cond.instanceMethod ({ cls := "GardenChess", name := "ways", desc := "(I)I" } : Jvm.MethodName)) ∈ lw_all := lw_g (lw_at lw_m7 8 rfl) rfl
theorem q1610 : (Jvm.Cond.code ({ cls := "GardenChess", name := "ways", desc := "(I)I" } : Jvm.MethodName) prog_1_method_51_code (8 : Nat) (Option.some Jvm.ClassFile.FieldType.int)) ∈ lw_all := lw_g (lw_at lw_m7 9 rfl) rfl
theorem q1612 : (Jvm.Cond.instanceMethod ({ cls := "GardenChess", name := "undo", desc := "()Z" } : Jvm.MethodName)) ∈ lw_all := lw_g (lw_at lw_m7 11 rfl) rfl
theorem q1613 : (Jvm.Cond.selects "GardenChess" ({ cls := "GardenChess", name := "undo", desc := "()Z" } : Jvm.MethodName) ({ cls := "GardenChess", name := "undo", desc := "()Z" } : Jvm.MethodName)) ∈ lw_all := lw_g (lw_at lw_m7 12 rfl) rfl
theorem q1614 : (Jvm.Cond.code ({ cls := "GardenChess", name := "undo", desc := "()Z" } : Jvm.MethodName) prog_1_method_54_code (1 : Nat) (Option.some Jvm.ClassFile.FieldType.boolean)) ∈ lw_all := lw_g (lw_at lw_m7 13 rfl) rfl
theorem q1616 : (Jvm.Cond.instanceMethod ({ cls := "GardenChess", name := "play", desc := "(I)I" } : Jvm.MethodName)) ∈ lw_all := lw_g (lw_at lw_m7 15 rfl) rfl
theorem q1617 : (Jvm.Cond.selects "GardenChess" ({ cls := "GardenChess", name := "play", desc := "(I)I" } : Jvm.MethodName) ({ cls := "GardenChess", name := "play", desc := "(I)I" } : Jvm.MethodName)) ∈ lw_all := lw_g (lw_at lw_m7 16 rfl) rfl
theorem q1618 : (Jvm.Cond.code ({ cls := "GardenChess", name := "play", desc := "(I)I" } : Jvm.MethodName) prog_1_method_55_code (3 : Nat) (Option.some Jvm.ClassFile.FieldType.int)) ∈ lw_all := lw_g (lw_at lw_m7 17 rfl) rfl
theorem q1619 : (Jvm.Cond.methodLink "GardenChess" (369 : Nat) ({ cls := "GardenChess", name := "keeps", desc := "()V" } : Jvm.MethodName)) ∈ lw_all := lw_g (lw_at lw_m7 18 rfl) rfl
theorem q1620 : (Jvm.Cond.privateMethod ({ cls := "GardenChess", name := "keeps", desc := "()V" } : Jvm.MethodName)) ∈ lw_tbl := lw_at lw_m7 19 rfl
theorem q1621 : (Jvm.Cond.instanceMethod ({ cls := "GardenChess", name := "keeps", desc := "()V" } : Jvm.MethodName)) ∈ lw_all := lw_g (lw_at lw_m7 20 rfl) rfl
theorem q1622 : (Jvm.Cond.code ({ cls := "GardenChess", name := "keeps", desc := "()V" } : Jvm.MethodName) prog_1_method_53_code (3 : Nat) (Option.none : Option Jvm.ClassFile.FieldType)) ∈ lw_all := lw_g (lw_at lw_m7 21 rfl) rfl
theorem q1624 : (Jvm.Cond.instanceMethod ({ cls := "GardenChess", name := "tend", desc := "(II)I" } : Jvm.MethodName)) ∈ lw_all := lw_g (lw_at lw_m7 23 rfl) rfl
theorem q1625 : (Jvm.Cond.selects "GardenChess" ({ cls := "GardenChess", name := "tend", desc := "(II)I" } : Jvm.MethodName) ({ cls := "GardenChess", name := "tend", desc := "(II)I" } : Jvm.MethodName)) ∈ lw_all := lw_g (lw_at lw_m7 24 rfl) rfl
theorem q1626 : (Jvm.Cond.code ({ cls := "GardenChess", name := "tend", desc := "(II)I" } : Jvm.MethodName) prog_1_method_56_code (3 : Nat) (Option.some Jvm.ClassFile.FieldType.int)) ∈ lw_all := lw_g (lw_at lw_m7 25 rfl) rfl
theorem q1627 : (Jvm.Cond.methodLink "GardenChess" (371 : Nat) ({ cls := "java/lang/Math", name := "min", desc := "(II)I" } : Jvm.MethodName)) ∈ lw_all := lw_g (lw_at lw_m7 26 rfl) rfl
theorem q1629 : (Jvm.Cond.instanceMethod ({ cls := "GardenChess", name := "days", desc := "(I)I" } : Jvm.MethodName)) ∈ lw_all := lw_g (lw_at lw_m7 28 rfl) rfl
theorem q1630 : (Jvm.Cond.selects "GardenChess" ({ cls := "GardenChess", name := "days", desc := "(I)I" } : Jvm.MethodName) ({ cls := "GardenChess", name := "days", desc := "(I)I" } : Jvm.MethodName)) ∈ lw_all := lw_g (lw_at lw_m7 29 rfl) rfl
theorem q1631 : (Jvm.Cond.code ({ cls := "GardenChess", name := "days", desc := "(I)I" } : Jvm.MethodName) prog_1_method_57_code (2 : Nat) (Option.some Jvm.ClassFile.FieldType.int)) ∈ lw_all := lw_g (lw_at lw_m7 30 rfl) rfl
theorem q1633 : (Jvm.Cond.instanceMethod ({ cls := "GardenChess", name := "chance", desc := "(I)I" } : Jvm.MethodName)) ∈ lw_all := lw_g (lw_at lw_m7 32 rfl) rfl
theorem q1634 : (Jvm.Cond.selects "GardenChess" ({ cls := "GardenChess", name := "chance", desc := "(I)I" } : Jvm.MethodName) ({ cls := "GardenChess", name := "chance", desc := "(I)I" } : Jvm.MethodName)) ∈ lw_all := lw_g (lw_at lw_m7 33 rfl) rfl
theorem q1635 : (Jvm.Cond.code ({ cls := "GardenChess", name := "chance", desc := "(I)I" } : Jvm.MethodName) prog_1_method_59_code (5 : Nat) (Option.some Jvm.ClassFile.FieldType.int)) ∈ lw_all := lw_g (lw_at lw_m7 34 rfl) rfl
theorem q1636 : (Jvm.Cond.methodLink "GardenChess" (381 : Nat) ({ cls := "GardenChess", name := "draw", desc := "(I)I" } : Jvm.MethodName)) ∈ lw_all := lw_g (lw_at lw_m7 35 rfl) rfl
theorem q1637 : (Jvm.Cond.privateMethod ({ cls := "GardenChess", name := "draw", desc := "(I)I" } : Jvm.MethodName)) ∈ lw_tbl := lw_at lw_m7 36 rfl
theorem q1638 : (Jvm.Cond.instanceMethod ({ cls := "GardenChess", name := "draw", desc := "(I)I" } : Jvm.MethodName)) ∈ lw_all := lw_g (lw_at lw_m7 37 rfl) rfl
theorem q1639 : (Jvm.Cond.code ({ cls := "GardenChess", name := "draw", desc := "(I)I" } : Jvm.MethodName) prog_1_method_58_code (2 : Nat) (Option.some Jvm.ClassFile.FieldType.int)) ∈ lw_all := lw_g (lw_at lw_m7 38 rfl) rfl
theorem q1640 : (Jvm.Cond.constantLong "GardenChess" (373 : Nat) (1103515245 : Int64)) ∈ lw_all := lw_g (lw_at lw_m7 39 rfl) rfl
theorem q1641 : (Jvm.Cond.constantLong "GardenChess" (375 : Nat) (12345 : Int64)) ∈ lw_all := lw_g (lw_at lw_m7 40 rfl) rfl
theorem q1642 : (Jvm.Cond.constantLong "GardenChess" (377 : Nat) (2147483648 : Int64)) ∈ lw_all := lw_g (lw_at lw_m7 41 rfl) rfl
theorem q1643 : (Jvm.Cond.constantLong "GardenChess" (379 : Nat) (64 : Int64)) ∈ lw_all := lw_g (lw_at lw_m7 42 rfl) rfl
theorem q1645 : (Jvm.Cond.instanceMethod ({ cls := "GardenChess", name := "seed", desc := "(I)Z" } : Jvm.MethodName)) ∈ lw_all := lw_g (lw_at lw_m7 44 rfl) rfl
theorem q1646 : (Jvm.Cond.selects "GardenChess" ({ cls := "GardenChess", name := "seed", desc := "(I)Z" } : Jvm.MethodName) ({ cls := "GardenChess", name := "seed", desc := "(I)Z" } : Jvm.MethodName)) ∈ lw_all := lw_g (lw_at lw_m7 45 rfl) rfl
theorem q1647 : (Jvm.Cond.code ({ cls := "GardenChess", name := "seed", desc := "(I)Z" } : Jvm.MethodName) prog_1_method_60_code (2 : Nat) (Option.some Jvm.ClassFile.FieldType.boolean)) ∈ lw_all := lw_g (lw_at lw_m7 46 rfl) rfl
theorem q1649 : (Jvm.Cond.instanceMethod ({ cls := "GardenChess", name := "ask", desc := "()J" } : Jvm.MethodName)) ∈ lw_all := lw_g (lw_at lw_m7 48 rfl) rfl
theorem q1650 : (Jvm.Cond.selects "GardenChess" ({ cls := "GardenChess", name := "ask", desc := "()J" } : Jvm.MethodName) ({ cls := "GardenChess", name := "ask", desc := "()J" } : Jvm.MethodName)) ∈ lw_all := lw_g (lw_at lw_m7 49 rfl) rfl
theorem q1651 : (Jvm.Cond.codeWith ({ cls := "GardenChess", name := "ask", desc := "()J" } : Jvm.MethodName) prog_1_method_62_code (4 : Nat) (Option.some Jvm.ClassFile.FieldType.long) [((26 : Nat), (35 : Nat), (38 : Nat), (139 : Nat))]) ∈ lw_all := lw_g (lw_at lw_m7 50 rfl) rfl
theorem q1652 : (Jvm.Cond.methodLink "GardenChess" (394 : Nat) ({ cls := "GardenChess$Reader", name := "question", desc := "(I)LGardenChess$Question;" } : Jvm.MethodName)) ∈ lw_all := lw_g (lw_at lw_m7 51 rfl) rfl
theorem q1657 : (Jvm.Cond.laysStatic "GardenChess" "TOLD_OF" "[Ljava/lang/String;") ∈ lw_tbl := lw_at lw_m7 56 rfl
theorem q1749 : (Jvm.Cond.methodLink "GardenChess" (401 : Nat) ({ cls := "GardenChess$Question", name := "meets", desc := "(ILGardenChess$Moment;)V" } : Jvm.MethodName)) ∈ lw_all := lw_g (lw_at lw_m7 148 rfl) rfl
theorem q1779 : (Jvm.Cond.methodLink "GardenChess" (407 : Nat) ({ cls := "GardenChess$Question", name := "answer", desc := "()J" } : Jvm.MethodName)) ∈ lw_all := lw_g (lw_at lw_m7 178 rfl) rfl
theorem q1784 : (Jvm.Cond.instanceMethod ({ cls := "GardenChess", name := "image", desc := "()I" } : Jvm.MethodName)) ∈ lw_all := lw_g (lw_at lw_m7 183 rfl) rfl
theorem q1785 : (Jvm.Cond.selects "GardenChess" ({ cls := "GardenChess", name := "image", desc := "()I" } : Jvm.MethodName) ({ cls := "GardenChess", name := "image", desc := "()I" } : Jvm.MethodName)) ∈ lw_all := lw_g (lw_at lw_m7 184 rfl) rfl
theorem q1786 : (Jvm.Cond.code ({ cls := "GardenChess", name := "image", desc := "()I" } : Jvm.MethodName) prog_1_method_65_code (2 : Nat) (Option.some Jvm.ClassFile.FieldType.int)) ∈ lw_all := lw_g (lw_at lw_m7 185 rfl) rfl
theorem q1787 : (Jvm.Cond.methodLink "GardenChess" (414 : Nat) ({ cls := "GardenChess", name := "writes", desc := "(I)V" } : Jvm.MethodName)) ∈ lw_all := lw_g (lw_at lw_m7 186 rfl) rfl
theorem q1788 : (Jvm.Cond.privateMethod ({ cls := "GardenChess", name := "writes", desc := "(I)V" } : Jvm.MethodName)) ∈ lw_tbl := lw_at lw_m7 187 rfl
theorem q1789 : (Jvm.Cond.instanceMethod ({ cls := "GardenChess", name := "writes", desc := "(I)V" } : Jvm.MethodName)) ∈ lw_all := lw_g (lw_at lw_m7 188 rfl) rfl
theorem q1790 : (Jvm.Cond.code ({ cls := "GardenChess", name := "writes", desc := "(I)V" } : Jvm.MethodName) prog_1_method_63_code (2 : Nat) (Option.none : Option Jvm.ClassFile.FieldType)) ∈ lw_all := lw_g (lw_at lw_m7 189 rfl) rfl
theorem q1791 : (Jvm.Cond.methodLink "GardenChess" (417 : Nat) ({ cls := "GardenChess", name := "check", desc := "([BI)I" } : Jvm.MethodName)) ∈ lw_all := lw_g (lw_at lw_m7 190 rfl) rfl
theorem q1792 : (Jvm.Cond.static ({ cls := "GardenChess", name := "check", desc := "([BI)I" } : Jvm.MethodName)) ∈ lw_all := lw_g (lw_at lw_m7 191 rfl) rfl
theorem q1793 : (Jvm.Cond.code ({ cls := "GardenChess", name := "check", desc := "([BI)I" } : Jvm.MethodName) prog_1_method_64_code (4 : Nat) (Option.some Jvm.ClassFile.FieldType.int)) ∈ lw_all := lw_g (lw_at lw_m7 192 rfl) rfl
theorem q1795 : (Jvm.Cond.instanceMethod ({ cls := "GardenChess", name := "octet", desc := "(I)I" } : Jvm.MethodName)) ∈ lw_all := lw_g (lw_at lw_m7 194 rfl) rfl
theorem q1796 : (Jvm.Cond.selects "GardenChess" ({ cls := "GardenChess", name := "octet", desc := "(I)I" } : Jvm.MethodName) ({ cls := "GardenChess", name := "octet", desc := "(I)I" } : Jvm.MethodName)) ∈ lw_all := lw_g (lw_at lw_m7 195 rfl) rfl
theorem q1797 : (Jvm.Cond.code ({ cls := "GardenChess", name := "octet", desc := "(I)I" } : Jvm.MethodName) prog_1_method_66_code (2 : Nat) (Option.some Jvm.ClassFile.FieldType.int)) ∈ lw_all := lw_g (lw_at lw_m7 196 rfl) rfl
theorem q1799 : (Jvm.Cond.instanceMethod ({ cls := "GardenChess", name := "on", desc := "()Z" } : Jvm.MethodName)) ∈ lw_all := lw_g (lw_at lw_m7 198 rfl) rfl
theorem q1800 : (Jvm.Cond.selects "GardenChess" ({ cls := "GardenChess", name := "on", desc := "()Z" } : Jvm.MethodName) ({ cls := "GardenChess", name := "on", desc := "()Z" } : Jvm.MethodName)) ∈ lw_all := lw_g (lw_at lw_m7 199 rfl) rfl
theorem q1801 : (Jvm.Cond.code ({ cls := "GardenChess", name := "on", desc := "()Z" } : Jvm.MethodName) prog_1_method_67_code (5 : Nat) (Option.some Jvm.ClassFile.FieldType.boolean)) ∈ lw_all := lw_g (lw_at lw_m7 200 rfl) rfl
theorem q1803 : (Jvm.Cond.instanceMethod ({ cls := "GardenChess", name := "status", desc := "(I)I" } : Jvm.MethodName)) ∈ lw_all := lw_g (lw_at lw_m7 202 rfl) rfl
theorem q1804 : (Jvm.Cond.selects "GardenChess" ({ cls := "GardenChess", name := "status", desc := "(I)I" } : Jvm.MethodName) ({ cls := "GardenChess", name := "status", desc := "(I)I" } : Jvm.MethodName)) ∈ lw_all := lw_g (lw_at lw_m7 203 rfl) rfl
theorem q1805 : (Jvm.Cond.code ({ cls := "GardenChess", name := "status", desc := "(I)I" } : Jvm.MethodName) prog_1_method_68_code (2 : Nat) (Option.some Jvm.ClassFile.FieldType.int)) ∈ lw_all := lw_g (lw_at lw_m7 204 rfl) rfl
theorem q2808 : (Jvm.Cond.castable "GardenChess" "java/lang/Object") ∈ lw_tbl := lw_at lw_m12 7 rfl
theorem q2844 : (Jvm.Cond.stringRef "GardenChess" (455 : Nat) "board") ∈ lw_tbl := lw_at lw_m12 43 rfl
theorem q2845 : (Jvm.Cond.stringRef "GardenChess" (456 : Nat) "by") ∈ lw_tbl := lw_at lw_m12 44 rfl
theorem q2846 : (Jvm.Cond.stringRef "GardenChess" (458 : Nat) "white") ∈ lw_tbl := lw_at lw_m12 45 rfl
theorem q2847 : (Jvm.Cond.stringRef "GardenChess" (460 : Nat) "black") ∈ lw_tbl := lw_at lw_m12 46 rfl
theorem q2848 : (Jvm.Cond.stringRef "GardenChess" (462 : Nat) "kind") ∈ lw_tbl := lw_at lw_m12 47 rfl
theorem q2849 : (Jvm.Cond.stringRef "GardenChess" (463 : Nat) "ways") ∈ lw_tbl := lw_at lw_m12 48 rfl
theorem q2850 : (Jvm.Cond.stringRef "GardenChess" (431 : Nat) "reach") ∈ lw_tbl := lw_at lw_m12 49 rfl
theorem q2851 : (Jvm.Cond.stringRef "GardenChess" (430 : Nat) "worth") ∈ lw_tbl := lw_at lw_m12 50 rfl
theorem q2852 : (Jvm.Cond.stringRef "GardenChess" (464 : Nat) "crown") ∈ lw_tbl := lw_at lw_m12 51 rfl
theorem q2853 : (Jvm.Cond.stringRef "GardenChess" (466 : Nat) "man") ∈ lw_tbl := lw_at lw_m12 52 rfl
theorem q2854 : (Jvm.Cond.stringRef "GardenChess" (467 : Nat) "is") ∈ lw_tbl := lw_at lw_m12 53 rfl
theorem q2855 : (Jvm.Cond.stringRef "GardenChess" (468 : Nat) "of") ∈ lw_tbl := lw_at lw_m12 54 rfl
theorem q2856 : (Jvm.Cond.stringRef "GardenChess" (469 : Nat) "at") ∈ lw_tbl := lw_at lw_m12 55 rfl
theorem q2857 : (Jvm.Cond.stringRef "GardenChess" (471 : Nat) "field") ∈ lw_tbl := lw_at lw_m12 56 rfl
theorem q2858 : (Jvm.Cond.stringRef "GardenChess" (473 : Nat) "bears") ∈ lw_tbl := lw_at lw_m12 57 rfl
theorem q2859 : (Jvm.Cond.stringRef "GardenChess" (474 : Nat) "harm") ∈ lw_tbl := lw_at lw_m12 58 rfl
theorem q2860 : (Jvm.Cond.stringRef "GardenChess" (476 : Nat) "grows") ∈ lw_tbl := lw_at lw_m12 59 rfl
theorem q2861 : (Jvm.Cond.stringRef "GardenChess" (478 : Nat) "sleepy") ∈ lw_tbl := lw_at lw_m12 60 rfl
theorem q2862 : (Jvm.Cond.stringRef "GardenChess" (421 : Nat) "taken") ∈ lw_tbl := lw_at lw_m12 61 rfl
theorem q2863 : (Jvm.Cond.stringRef "GardenChess" (422 : Nat) "check") ∈ lw_tbl := lw_at lw_m12 62 rfl
theorem q2864 : (Jvm.Cond.stringRef "GardenChess" (423 : Nat) "off") ∈ lw_tbl := lw_at lw_m12 63 rfl
theorem q2865 : (Jvm.Cond.stringRef "GardenChess" (424 : Nat) "day") ∈ lw_tbl := lw_at lw_m12 64 rfl
theorem q2866 : (Jvm.Cond.stringRef "GardenChess" (425 : Nat) "number") ∈ lw_tbl := lw_at lw_m12 65 rfl
theorem q2867 : (Jvm.Cond.stringRef "GardenChess" (427 : Nat) "column") ∈ lw_tbl := lw_at lw_m12 66 rfl
theorem q2868 : (Jvm.Cond.stringRef "GardenChess" (428 : Nat) "row") ∈ lw_tbl := lw_at lw_m12 67 rfl
theorem q2869 : (Jvm.Cond.stringRef "GardenChess" (429 : Nat) "side") ∈ lw_tbl := lw_at lw_m12 68 rfl
theorem q2870 : (Jvm.Cond.stringRef "GardenChess" (432 : Nat) "moves") ∈ lw_tbl := lw_at lw_m12 69 rfl
theorem q2871 : (Jvm.Cond.stringRef "GardenChess" (479 : Nat) "or") ∈ lw_tbl := lw_at lw_m12 70 rfl
theorem q2872 : (Jvm.Cond.stringRef "GardenChess" (481 : Nat) "and") ∈ lw_tbl := lw_at lw_m12 71 rfl
theorem q2873 : (Jvm.Cond.stringRef "GardenChess" (483 : Nat) "not") ∈ lw_tbl := lw_at lw_m12 72 rfl
theorem q2874 : (Jvm.Cond.stringRef "GardenChess" (485 : Nat) "all") ∈ lw_tbl := lw_at lw_m12 73 rfl
theorem q2875 : (Jvm.Cond.stringRef "GardenChess" (486 : Nat) "min") ∈ lw_tbl := lw_at lw_m12 74 rfl
theorem q2876 : (Jvm.Cond.stringRef "GardenChess" (487 : Nat) "max") ∈ lw_tbl := lw_at lw_m12 75 rfl
theorem q2878 : (Jvm.Cond.stringRef "GardenChess" (440 : Nat) "first") ∈ lw_tbl := lw_at lw_m12 77 rfl
theorem q2879 : (Jvm.Cond.stringRef "GardenChess" (442 : Nat) "last") ∈ lw_tbl := lw_at lw_m12 78 rfl
theorem q2880 : (Jvm.Cond.stringRef "GardenChess" (444 : Nat) "often") ∈ lw_tbl := lw_at lw_m12 79 rfl
theorem q2881 : (Jvm.Cond.stringRef "GardenChess" (446 : Nat) "total") ∈ lw_tbl := lw_at lw_m12 80 rfl
theorem q2882 : (Jvm.Cond.stringRef "GardenChess" (448 : Nat) "most") ∈ lw_tbl := lw_at lw_m12 81 rfl
theorem q2883 : (Jvm.Cond.stringRef "GardenChess" (450 : Nat) "least") ∈ lw_tbl := lw_at lw_m12 82 rfl
theorem q163 : (Jvm.Cond.initialized "GardenChess$Board") ∈ lw_all := lw_g (lw_at lw_m1 2 rfl) rfl
theorem q213 : (Jvm.Cond.instantiable "GardenChess$Board" (10 : Nat)) ∈ lw_all := lw_g (lw_at lw_m1 52 rfl) rfl
theorem q215 : (Jvm.Cond.instanceMethod ({ cls := "GardenChess$Board", name := "<init>", desc := "()V" } : Jvm.MethodName)) ∈ lw_all := lw_g (lw_at lw_m1 54 rfl) rfl
theorem q216 : (Jvm.Cond.code ({ cls := "GardenChess$Board", name := "<init>", desc := "()V" } : Jvm.MethodName) prog_4_method_1_code (1 : Nat) (Option.none : Option Jvm.ClassFile.FieldType)) ∈ lw_all := lw_g (lw_at lw_m1 55 rfl) rfl
theorem q217 : (Jvm.Cond.methodLink "GardenChess$Board" (3 : Nat) ({ cls := "java/lang/Object", name := "<init>", desc := "()V" } : Jvm.MethodName)) ∈ lw_all := lw_g (lw_at lw_m1 56 rfl) rfl
theorem q218 : (Jvm.Cond.classLink "GardenChess$Board" (15 : Nat) "java/util/ArrayList") ∈ lw_all := lw_g (lw_at lw_m1 57 rfl) rfl
theorem q220 : (Jvm.Cond.methodLink "GardenChess$Board" (17 : Nat) ({ cls := "java/util/ArrayList", name := "<init>", desc := "(I)V" } : Jvm.MethodName)) ∈ lw_all := lw_g (lw_at lw_m1 59 rfl) rfl
theorem q259 : (Jvm.Cond.fieldLink "GardenChess$Board" (9 : Nat) "GardenChess$Board" "looks" "[I") ∈ lw_all := lw_g (lw_at lw_m1 98 rfl) rfl
theorem q263 : (Jvm.Cond.fieldLink "GardenChess$Board" (20 : Nat) "GardenChess$Board" "kinds" "Ljava/util/List;") ∈ lw_all := lw_g (lw_at lw_m1 102 rfl) rfl
theorem q266 : (Jvm.Cond.fieldLink "GardenChess$Board" (24 : Nat) "GardenChess$Board" "men" "Ljava/util/List;") ∈ lw_all := lw_g (lw_at lw_m1 105 rfl) rfl
theorem q269 : (Jvm.Cond.fieldLink "GardenChess$Board" (27 : Nat) "GardenChess$Board" "fields" "Ljava/util/List;") ∈ lw_all := lw_g (lw_at lw_m1 108 rfl) rfl
theorem q275 : (Jvm.Cond.lays "GardenChess$Board" "GardenChess$Board" "statements" "I") ∈ lw_all := lw_g (lw_at lw_m1 114 rfl) rfl
theorem q276 : (Jvm.Cond.soleField "GardenChess$Board" "statements") ∈ lw_all := lw_g (lw_at lw_m1 115 rfl) rfl
theorem q277 : (Jvm.Cond.lays "GardenChess$Board" "GardenChess$Board" "columns" "I") ∈ lw_all := lw_g (lw_at lw_m1 116 rfl) rfl
theorem q278 : (Jvm.Cond.soleField "GardenChess$Board" "columns") ∈ lw_all := lw_g (lw_at lw_m1 117 rfl) rfl
theorem q279 : (Jvm.Cond.lays "GardenChess$Board" "GardenChess$Board" "rows" "I") ∈ lw_all := lw_g (lw_at lw_m1 118 rfl) rfl
theorem q280 : (Jvm.Cond.soleField "GardenChess$Board" "rows") ∈ lw_all := lw_g (lw_at lw_m1 119 rfl) rfl
theorem q281 : (Jvm.Cond.lays "GardenChess$Board" "GardenChess$Board" "grows" "I") ∈ lw_all := lw_g (lw_at lw_m1 120 rfl) rfl
theorem q282 : (Jvm.Cond.soleField "GardenChess$Board" "grows") ∈ lw_all := lw_g (lw_at lw_m1 121 rfl) rfl
theorem q283 : (Jvm.Cond.lays "GardenChess$Board" "GardenChess$Board" "sleepy" "I") ∈ lw_all := lw_g (lw_at lw_m1 122 rfl) rfl
theorem q284 : (Jvm.Cond.soleField "GardenChess$Board" "sleepy") ∈ lw_all := lw_g (lw_at lw_m1 123 rfl) rfl
theorem q285 : (Jvm.Cond.laysFinal "GardenChess$Board" "GardenChess$Board" "looks" "[I") ∈ lw_all := lw_g (lw_at lw_m1 124 rfl) rfl
theorem q286 : (Jvm.Cond.soleField "GardenChess$Board" "looks") ∈ lw_all := lw_g (lw_at lw_m1 125 rfl) rfl
theorem q287 : (Jvm.Cond.laysFinal "GardenChess$Board" "GardenChess$Board" "kinds" "Ljava/util/List;") ∈ lw_all := lw_g (lw_at lw_m1 126 rfl) rfl
theorem q288 : (Jvm.Cond.soleField "GardenChess$Board" "kinds") ∈ lw_all := lw_g (lw_at lw_m1 127 rfl) rfl
theorem q289 : (Jvm.Cond.laysFinal "GardenChess$Board" "GardenChess$Board" "men" "Ljava/util/List;") ∈ lw_all := lw_g (lw_at lw_m1 128 rfl) rfl
theorem q290 : (Jvm.Cond.soleField "GardenChess$Board" "men") ∈ lw_all := lw_g (lw_at lw_m1 129 rfl) rfl
theorem q291 : (Jvm.Cond.laysFinal "GardenChess$Board" "GardenChess$Board" "fields" "Ljava/util/List;") ∈ lw_all := lw_g (lw_at lw_m1 130 rfl) rfl
theorem q292 : (Jvm.Cond.soleField "GardenChess$Board" "fields") ∈ lw_all := lw_g (lw_at lw_m1 131 rfl) rfl
theorem q293 : (Jvm.Cond.lays "GardenChess$Board" "GardenChess$Board" "harm" "LGardenChess$Value;") ∈ lw_all := lw_g (lw_at lw_m1 132 rfl) rfl
theorem q294 : (Jvm.Cond.soleField "GardenChess$Board" "harm") ∈ lw_all := lw_g (lw_at lw_m1 133 rfl) rfl
theorem q295 : (Jvm.Cond.superclass "GardenChess$Board" "java/lang/Object") ∈ lw_all := lw_g (lw_at lw_m1 134 rfl) rfl
theorem q876 : (Jvm.Cond.instanceMethod ({ cls := "GardenChess$Board", name := "isNamed", desc := "(Ljava/lang/String;)Z" } : Jvm.MethodName)) ∈ lw_all := lw_g (lw_at lw_m3 235 rfl) rfl
theorem q877 : (Jvm.Cond.selects "GardenChess$Board" ({ cls := "GardenChess$Board", name := "isNamed", desc := "(Ljava/lang/String;)Z" } : Jvm.MethodName) ({ cls := "GardenChess$Board", name := "isNamed", desc := "(Ljava/lang/String;)Z" } : Jvm.MethodName)) ∈ lw_all := lw_g (lw_at lw_m3 236 rfl) rfl
theorem q878 : (Jvm.Cond.code ({ cls := "GardenChess$Board", name := "isNamed", desc := "(Ljava/lang/String;)Z" } : Jvm.MethodName) prog_4_method_2_code (2 : Nat) (Option.some Jvm.ClassFile.FieldType.boolean)) ∈ lw_all := lw_g (lw_at lw_m3 237 rfl) rfl
theorem q879 : (Jvm.Cond.methodLink "GardenChess$Board" (30 : Nat) ({ cls := "GardenChess$Named", name := "find", desc := "(Ljava/util/List;Ljava/lang/String;)I" } : Jvm.MethodName)) ∈ lw_all := lw_g (lw_at lw_m3 238 rfl) rfl
theorem q971 : (Jvm.Cond.selects "GardenChess$Board" ({ cls := "java/lang/Object", name := "getClass", desc := "()Ljava/lang/Class;" } : Jvm.MethodName) ({ cls := "java/lang/Object", name := "getClass", desc := "()Ljava/lang/Class;" } : Jvm.MethodName)) ∈ lw_all := lw_g (lw_at lw_m4 90 rfl) rfl
theorem q1019 : (Jvm.Cond.instanceMethod ({ cls := "GardenChess$Board", name := "isFull", desc := "(II)Z" } : Jvm.MethodName)) ∈ lw_all := lw_g (lw_at lw_m4 138 rfl) rfl
theorem q1020 : (Jvm.Cond.selects "GardenChess$Board" ({ cls := "GardenChess$Board", name := "isFull", desc := "(II)Z" } : Jvm.MethodName) ({ cls := "GardenChess$Board", name := "isFull", desc := "(II)Z" } : Jvm.MethodName)) ∈ lw_all := lw_g (lw_at lw_m4 139 rfl) rfl
theorem q1021 : (Jvm.Cond.code ({ cls := "GardenChess$Board", name := "isFull", desc := "(II)Z" } : Jvm.MethodName) prog_4_method_3_code (4 : Nat) (Option.some Jvm.ClassFile.FieldType.boolean)) ∈ lw_all := lw_g (lw_at lw_m4 140 rfl) rfl
theorem q1022 : (Jvm.Cond.interfaceEntry "GardenChess$Board" (36 : Nat)) ∈ lw_tbl := lw_at lw_m4 141 rfl
theorem q1023 : (Jvm.Cond.methodLink "GardenChess$Board" (36 : Nat) ({ cls := "java/util/List", name := "size", desc := "()I" } : Jvm.MethodName)) ∈ lw_all := lw_g (lw_at lw_m4 142 rfl) rfl
theorem q1024 : (Jvm.Cond.interfaceEntry "GardenChess$Board" (42 : Nat)) ∈ lw_tbl := lw_at lw_m4 143 rfl
theorem q1025 : (Jvm.Cond.methodLink "GardenChess$Board" (42 : Nat) ({ cls := "java/util/List", name := "get", desc := "(I)Ljava/lang/Object;" } : Jvm.MethodName)) ∈ lw_all := lw_g (lw_at lw_m4 144 rfl) rfl
theorem q1026 : (Jvm.Cond.classLink "GardenChess$Board" (46 : Nat) "GardenChess$Man") ∈ lw_all := lw_g (lw_at lw_m4 145 rfl) rfl
theorem q1040 : (Jvm.Cond.fieldLinkNest "GardenChess$Board" (48 : Nat) "GardenChess$Man" "column" "I" "GardenChess") ∈ lw_tbl := lw_at lw_m4 159 rfl
theorem q1043 : (Jvm.Cond.fieldLinkNest "GardenChess$Board" (52 : Nat) "GardenChess$Man" "row" "I" "GardenChess") ∈ lw_tbl := lw_at lw_m4 162 rfl
theorem q2809 : (Jvm.Cond.castable "GardenChess$Board" "java/lang/Object") ∈ lw_tbl := lw_at lw_m12 8 rfl
theorem q187 : (Jvm.Cond.initialized "GardenChess$Man") ∈ lw_all := lw_g (lw_at lw_m1 26 rfl) rfl
theorem q979 : (Jvm.Cond.selects "GardenChess$Man" ({ cls := "java/lang/Object", name := "getClass", desc := "()Ljava/lang/Class;" } : Jvm.MethodName) ({ cls := "java/lang/Object", name := "getClass", desc := "()Ljava/lang/Class;" } : Jvm.MethodName)) ∈ lw_all := lw_g (lw_at lw_m4 98 rfl) rfl
theorem q1028 : (Jvm.Cond.instantiable "GardenChess$Man" (5 : Nat)) ∈ lw_all := lw_g (lw_at lw_m4 147 rfl) rfl
theorem q1030 : (Jvm.Cond.instanceMethod ({ cls := "GardenChess$Man", name := "<init>", desc := "(Ljava/lang/String;IIII)V" } : Jvm.MethodName)) ∈ lw_all := lw_g (lw_at lw_m4 149 rfl) rfl
theorem q1031 : (Jvm.Cond.code ({ cls := "GardenChess$Man", name := "<init>", desc := "(Ljava/lang/String;IIII)V" } : Jvm.MethodName) prog_12_method_1_code (6 : Nat) (Option.none : Option Jvm.ClassFile.FieldType)) ∈ lw_all := lw_g (lw_at lw_m4 150 rfl) rfl
theorem q1032 : (Jvm.Cond.methodLink "GardenChess$Man" (1 : Nat) ({ cls := "GardenChess$Named", name := "<init>", desc := "(Ljava/lang/String;)V" } : Jvm.MethodName)) ∈ lw_all := lw_g (lw_at lw_m4 151 rfl) rfl
theorem q1033 : (Jvm.Cond.fieldLink "GardenChess$Man" (7 : Nat) "GardenChess$Man" "kind" "I") ∈ lw_all := lw_g (lw_at lw_m4 152 rfl) rfl
theorem q1035 : (Jvm.Cond.fieldLink "GardenChess$Man" (13 : Nat) "GardenChess$Man" "side" "I") ∈ lw_all := lw_g (lw_at lw_m4 154 rfl) rfl
theorem q1038 : (Jvm.Cond.fieldLink "GardenChess$Man" (16 : Nat) "GardenChess$Man" "column" "I") ∈ lw_all := lw_g (lw_at lw_m4 157 rfl) rfl
theorem q1041 : (Jvm.Cond.fieldLink "GardenChess$Man" (19 : Nat) "GardenChess$Man" "row" "I") ∈ lw_all := lw_g (lw_at lw_m4 160 rfl) rfl
theorem q1044 : (Jvm.Cond.laysFinal "GardenChess$Man" "GardenChess$Man" "kind" "I") ∈ lw_all := lw_g (lw_at lw_m4 163 rfl) rfl
theorem q1045 : (Jvm.Cond.soleField "GardenChess$Man" "kind") ∈ lw_all := lw_g (lw_at lw_m4 164 rfl) rfl
theorem q1046 : (Jvm.Cond.laysFinal "GardenChess$Man" "GardenChess$Man" "side" "I") ∈ lw_all := lw_g (lw_at lw_m4 165 rfl) rfl
theorem q1047 : (Jvm.Cond.soleField "GardenChess$Man" "side") ∈ lw_all := lw_g (lw_at lw_m4 166 rfl) rfl
theorem q1048 : (Jvm.Cond.laysFinal "GardenChess$Man" "GardenChess$Man" "column" "I") ∈ lw_all := lw_g (lw_at lw_m4 167 rfl) rfl
theorem q1049 : (Jvm.Cond.soleField "GardenChess$Man" "column") ∈ lw_all := lw_g (lw_at lw_m4 168 rfl) rfl
theorem q1050 : (Jvm.Cond.laysFinal "GardenChess$Man" "GardenChess$Man" "row" "I") ∈ lw_all := lw_g (lw_at lw_m4 169 rfl) rfl
theorem q1051 : (Jvm.Cond.soleField "GardenChess$Man" "row") ∈ lw_all := lw_g (lw_at lw_m4 170 rfl) rfl
theorem q1052 : (Jvm.Cond.laysFinal "GardenChess$Man" "GardenChess$Named" "name" "Ljava/lang/String;") ∈ lw_all := lw_g (lw_at lw_m4 171 rfl) rfl
theorem q1053 : (Jvm.Cond.superclass "GardenChess$Man" "GardenChess$Named") ∈ lw_all := lw_g (lw_at lw_m4 172 rfl) rfl
theorem q1337 : (Jvm.Cond.selects "GardenChess$Man" ({ cls := "GardenChess$Named", name := "letter", desc := "(I)I" } : Jvm.MethodName) ({ cls := "GardenChess$Named", name := "letter", desc := "(I)I" } : Jvm.MethodName)) ∈ lw_all := lw_g (lw_at lw_m5 216 rfl) rfl
theorem q2795 : (Jvm.Cond.castable "GardenChess$Man" "GardenChess$Named") ∈ lw_tbl := lw_at lw_m11 234 rfl
theorem q2817 : (Jvm.Cond.castable "GardenChess$Man" "java/lang/Object") ∈ lw_tbl := lw_at lw_m12 16 rfl
theorem q188 : (Jvm.Cond.initialized "GardenChess$Field") ∈ lw_all := lw_g (lw_at lw_m1 27 rfl) rfl
theorem q975 : (Jvm.Cond.selects "GardenChess$Field" ({ cls := "java/lang/Object", name := "getClass", desc := "()Ljava/lang/Class;" } : Jvm.MethodName) ({ cls := "java/lang/Object", name := "getClass", desc := "()Ljava/lang/Class;" } : Jvm.MethodName)) ∈ lw_all := lw_g (lw_at lw_m4 94 rfl) rfl
theorem q1055 : (Jvm.Cond.instantiable "GardenChess$Field" (4 : Nat)) ∈ lw_all := lw_g (lw_at lw_m4 174 rfl) rfl
theorem q1058 : (Jvm.Cond.instanceMethod ({ cls := "GardenChess$Field", name := "<init>", desc := "(Ljava/lang/String;III)V" } : Jvm.MethodName)) ∈ lw_all := lw_g (lw_at lw_m4 177 rfl) rfl
theorem q1059 : (Jvm.Cond.code ({ cls := "GardenChess$Field", name := "<init>", desc := "(Ljava/lang/String;III)V" } : Jvm.MethodName) prog_8_method_1_code (5 : Nat) (Option.none : Option Jvm.ClassFile.FieldType)) ∈ lw_all := lw_g (lw_at lw_m4 178 rfl) rfl
theorem q1060 : (Jvm.Cond.methodLink "GardenChess$Field" (1 : Nat) ({ cls := "GardenChess$Named", name := "<init>", desc := "(Ljava/lang/String;)V" } : Jvm.MethodName)) ∈ lw_all := lw_g (lw_at lw_m4 179 rfl) rfl
theorem q1061 : (Jvm.Cond.fieldLink "GardenChess$Field" (7 : Nat) "GardenChess$Field" "column" "I") ∈ lw_all := lw_g (lw_at lw_m4 180 rfl) rfl
theorem q1064 : (Jvm.Cond.fieldLink "GardenChess$Field" (13 : Nat) "GardenChess$Field" "row" "I") ∈ lw_all := lw_g (lw_at lw_m4 183 rfl) rfl
theorem q1067 : (Jvm.Cond.fieldLink "GardenChess$Field" (16 : Nat) "GardenChess$Field" "bears" "I") ∈ lw_all := lw_g (lw_at lw_m4 186 rfl) rfl
theorem q1069 : (Jvm.Cond.laysFinal "GardenChess$Field" "GardenChess$Field" "column" "I") ∈ lw_all := lw_g (lw_at lw_m4 188 rfl) rfl
theorem q1070 : (Jvm.Cond.soleField "GardenChess$Field" "column") ∈ lw_all := lw_g (lw_at lw_m4 189 rfl) rfl
theorem q1071 : (Jvm.Cond.laysFinal "GardenChess$Field" "GardenChess$Field" "row" "I") ∈ lw_all := lw_g (lw_at lw_m4 190 rfl) rfl
theorem q1072 : (Jvm.Cond.soleField "GardenChess$Field" "row") ∈ lw_all := lw_g (lw_at lw_m4 191 rfl) rfl
theorem q1073 : (Jvm.Cond.laysFinal "GardenChess$Field" "GardenChess$Field" "bears" "I") ∈ lw_all := lw_g (lw_at lw_m4 192 rfl) rfl
theorem q1074 : (Jvm.Cond.soleField "GardenChess$Field" "bears") ∈ lw_all := lw_g (lw_at lw_m4 193 rfl) rfl
theorem q1075 : (Jvm.Cond.laysFinal "GardenChess$Field" "GardenChess$Named" "name" "Ljava/lang/String;") ∈ lw_all := lw_g (lw_at lw_m4 194 rfl) rfl
theorem q1076 : (Jvm.Cond.superclass "GardenChess$Field" "GardenChess$Named") ∈ lw_all := lw_g (lw_at lw_m4 195 rfl) rfl
theorem q1335 : (Jvm.Cond.selects "GardenChess$Field" ({ cls := "GardenChess$Named", name := "letter", desc := "(I)I" } : Jvm.MethodName) ({ cls := "GardenChess$Named", name := "letter", desc := "(I)I" } : Jvm.MethodName)) ∈ lw_all := lw_g (lw_at lw_m5 214 rfl) rfl
theorem q2793 : (Jvm.Cond.castable "GardenChess$Field" "GardenChess$Named") ∈ lw_tbl := lw_at lw_m11 232 rfl
theorem q2818 : (Jvm.Cond.castable "GardenChess$Field" "java/lang/Object") ∈ lw_tbl := lw_at lw_m12 17 rfl
theorem q189 : (Jvm.Cond.initialized "GardenChess$Value") ∈ lw_all := lw_g (lw_at lw_m1 28 rfl) rfl
theorem q1087 : (Jvm.Cond.instanceMethod ({ cls := "GardenChess$Value", name := "<init>", desc := "()V" } : Jvm.MethodName)) ∈ lw_all := lw_g (lw_at lw_m4 206 rfl) rfl
theorem q1088 : (Jvm.Cond.code ({ cls := "GardenChess$Value", name := "<init>", desc := "()V" } : Jvm.MethodName) prog_23_method_1_code (1 : Nat) (Option.none : Option Jvm.ClassFile.FieldType)) ∈ lw_all := lw_g (lw_at lw_m4 207 rfl) rfl
theorem q1089 : (Jvm.Cond.methodLink "GardenChess$Value" (1 : Nat) ({ cls := "java/lang/Object", name := "<init>", desc := "()V" } : Jvm.MethodName)) ∈ lw_all := lw_g (lw_at lw_m4 208 rfl) rfl
theorem q1497 : (Jvm.Cond.declares ({ cls := "GardenChess$Value", name := "at", desc := "(LGardenChess$Moment;)J" } : Jvm.MethodName)) ∈ lw_tbl := lw_at lw_m6 136 rfl
theorem q1498 : (Jvm.Cond.sameMethod "GardenChess$Value" "GardenChess$Value" "at" "(LGardenChess$Moment;)J") ∈ lw_all := lw_g (lw_at lw_m6 137 rfl) rfl
theorem q190 : (Jvm.Cond.initialized "GardenChess$Chain") ∈ lw_all := lw_g (lw_at lw_m1 29 rfl) rfl
theorem q972 : (Jvm.Cond.selects "GardenChess$Chain" ({ cls := "java/lang/Object", name := "getClass", desc := "()Ljava/lang/Class;" } : Jvm.MethodName) ({ cls := "java/lang/Object", name := "getClass", desc := "()Ljava/lang/Class;" } : Jvm.MethodName)) ∈ lw_all := lw_g (lw_at lw_m4 91 rfl) rfl
theorem q1082 : (Jvm.Cond.instantiable "GardenChess$Chain" (2 : Nat)) ∈ lw_all := lw_g (lw_at lw_m4 201 rfl) rfl
theorem q1084 : (Jvm.Cond.instanceMethod ({ cls := "GardenChess$Chain", name := "<init>", desc := "()V" } : Jvm.MethodName)) ∈ lw_all := lw_g (lw_at lw_m4 203 rfl) rfl
theorem q1085 : (Jvm.Cond.code ({ cls := "GardenChess$Chain", name := "<init>", desc := "()V" } : Jvm.MethodName) prog_5_method_1_code (1 : Nat) (Option.none : Option Jvm.ClassFile.FieldType)) ∈ lw_all := lw_g (lw_at lw_m4 204 rfl) rfl
theorem q1086 : (Jvm.Cond.methodLinkNest "GardenChess$Chain" (1 : Nat) ({ cls := "GardenChess$Value", name := "<init>", desc := "()V" } : Jvm.MethodName) "GardenChess") ∈ lw_tbl := lw_at lw_m4 205 rfl
theorem q1090 : (Jvm.Cond.classLink "GardenChess$Chain" (7 : Nat) "java/util/ArrayList") ∈ lw_all := lw_g (lw_at lw_m4 209 rfl) rfl
theorem q1091 : (Jvm.Cond.methodLink "GardenChess$Chain" (9 : Nat) ({ cls := "java/util/ArrayList", name := "<init>", desc := "(I)V" } : Jvm.MethodName)) ∈ lw_all := lw_g (lw_at lw_m4 210 rfl) rfl
theorem q1092 : (Jvm.Cond.classLink "GardenChess$Chain" (18 : Nat) "java/lang/StringBuilder") ∈ lw_all := lw_g (lw_at lw_m4 211 rfl) rfl
theorem q1094 : (Jvm.Cond.methodLink "GardenChess$Chain" (20 : Nat) ({ cls := "java/lang/StringBuilder", name := "<init>", desc := "()V" } : Jvm.MethodName)) ∈ lw_all := lw_g (lw_at lw_m4 213 rfl) rfl
theorem q1115 : (Jvm.Cond.fieldLink "GardenChess$Chain" (12 : Nat) "GardenChess$Chain" "values" "Ljava/util/List;") ∈ lw_all := lw_g (lw_at lw_m4 234 rfl) rfl
theorem q1116 : (Jvm.Cond.fieldLink "GardenChess$Chain" (21 : Nat) "GardenChess$Chain" "signs" "Ljava/lang/StringBuilder;") ∈ lw_all := lw_g (lw_at lw_m4 235 rfl) rfl
theorem q1117 : (Jvm.Cond.laysFinal "GardenChess$Chain" "GardenChess$Chain" "values" "Ljava/util/List;") ∈ lw_all := lw_g (lw_at lw_m4 236 rfl) rfl
theorem q1118 : (Jvm.Cond.soleField "GardenChess$Chain" "values") ∈ lw_all := lw_g (lw_at lw_m4 237 rfl) rfl
theorem q1119 : (Jvm.Cond.laysFinal "GardenChess$Chain" "GardenChess$Chain" "signs" "Ljava/lang/StringBuilder;") ∈ lw_all := lw_g (lw_at lw_m4 238 rfl) rfl
theorem q1120 : (Jvm.Cond.soleField "GardenChess$Chain" "signs") ∈ lw_all := lw_g (lw_at lw_m4 239 rfl) rfl
theorem q1121 : (Jvm.Cond.superclass "GardenChess$Chain" "GardenChess$Value") ∈ lw_all := lw_g (lw_at lw_m5 0 rfl) rfl
theorem q1204 : (Jvm.Cond.instanceMethod ({ cls := "GardenChess$Chain", name := "add", desc := "(CLGardenChess$Value;)V" } : Jvm.MethodName)) ∈ lw_all := lw_g (lw_at lw_m5 83 rfl) rfl
theorem q1205 : (Jvm.Cond.selects "GardenChess$Chain" ({ cls := "GardenChess$Chain", name := "add", desc := "(CLGardenChess$Value;)V" } : Jvm.MethodName) ({ cls := "GardenChess$Chain", name := "add", desc := "(CLGardenChess$Value;)V" } : Jvm.MethodName)) ∈ lw_all := lw_g (lw_at lw_m5 84 rfl) rfl
theorem q1206 : (Jvm.Cond.code ({ cls := "GardenChess$Chain", name := "add", desc := "(CLGardenChess$Value;)V" } : Jvm.MethodName) prog_5_method_2_code (3 : Nat) (Option.none : Option Jvm.ClassFile.FieldType)) ∈ lw_all := lw_g (lw_at lw_m5 85 rfl) rfl
theorem q1207 : (Jvm.Cond.methodLink "GardenChess$Chain" (25 : Nat) ({ cls := "java/lang/StringBuilder", name := "append", desc := "(C)Ljava/lang/StringBuilder;" } : Jvm.MethodName)) ∈ lw_all := lw_g (lw_at lw_m5 86 rfl) rfl
theorem q1262 : (Jvm.Cond.interfaceEntry "GardenChess$Chain" (29 : Nat)) ∈ lw_tbl := lw_at lw_m5 141 rfl
theorem q1263 : (Jvm.Cond.methodLink "GardenChess$Chain" (29 : Nat) ({ cls := "java/util/List", name := "add", desc := "(Ljava/lang/Object;)Z" } : Jvm.MethodName)) ∈ lw_all := lw_g (lw_at lw_m5 142 rfl) rfl
theorem q1513 : (Jvm.Cond.selects "GardenChess$Chain" ({ cls := "GardenChess$Value", name := "at", desc := "(LGardenChess$Moment;)J" } : Jvm.MethodName) ({ cls := "GardenChess$Chain", name := "at", desc := "(LGardenChess$Moment;)J" } : Jvm.MethodName)) ∈ lw_all := lw_g (lw_at lw_m6 152 rfl) rfl
theorem q1514 : (Jvm.Cond.instanceMethod ({ cls := "GardenChess$Chain", name := "at", desc := "(LGardenChess$Moment;)J" } : Jvm.MethodName)) ∈ lw_all := lw_g (lw_at lw_m6 153 rfl) rfl
theorem q1515 : (Jvm.Cond.code ({ cls := "GardenChess$Chain", name := "at", desc := "(LGardenChess$Moment;)J" } : Jvm.MethodName) prog_5_method_3_code (5 : Nat) (Option.some Jvm.ClassFile.FieldType.long)) ∈ lw_all := lw_g (lw_at lw_m6 154 rfl) rfl
theorem q1516 : (Jvm.Cond.interfaceEntry "GardenChess$Chain" (35 : Nat)) ∈ lw_tbl := lw_at lw_m6 155 rfl
theorem q1517 : (Jvm.Cond.methodLink "GardenChess$Chain" (35 : Nat) ({ cls := "java/util/List", name := "get", desc := "(I)Ljava/lang/Object;" } : Jvm.MethodName)) ∈ lw_all := lw_g (lw_at lw_m6 156 rfl) rfl
theorem q1518 : (Jvm.Cond.classLink "GardenChess$Chain" (2 : Nat) "GardenChess$Value") ∈ lw_all := lw_g (lw_at lw_m6 157 rfl) rfl
theorem q1519 : (Jvm.Cond.methodLink "GardenChess$Chain" (39 : Nat) ({ cls := "GardenChess$Value", name := "at", desc := "(LGardenChess$Moment;)J" } : Jvm.MethodName)) ∈ lw_all := lw_g (lw_at lw_m6 158 rfl) rfl
theorem q1534 : (Jvm.Cond.interfaceEntry "GardenChess$Chain" (43 : Nat)) ∈ lw_tbl := lw_at lw_m6 173 rfl
theorem q1535 : (Jvm.Cond.methodLink "GardenChess$Chain" (43 : Nat) ({ cls := "java/util/List", name := "size", desc := "()I" } : Jvm.MethodName)) ∈ lw_all := lw_g (lw_at lw_m6 174 rfl) rfl
theorem q1536 : (Jvm.Cond.methodLink "GardenChess$Chain" (47 : Nat) ({ cls := "java/lang/StringBuilder", name := "charAt", desc := "(I)C" } : Jvm.MethodName)) ∈ lw_all := lw_g (lw_at lw_m6 175 rfl) rfl
theorem q1546 : (Jvm.Cond.methodLink "GardenChess$Chain" (51 : Nat) ({ cls := "GardenChess$Chain", name := "two", desc := "(CJJ)J" } : Jvm.MethodName)) ∈ lw_all := lw_g (lw_at lw_m6 185 rfl) rfl
theorem q1547 : (Jvm.Cond.static ({ cls := "GardenChess$Chain", name := "two", desc := "(CJJ)J" } : Jvm.MethodName)) ∈ lw_all := lw_g (lw_at lw_m6 186 rfl) rfl
theorem q1548 : (Jvm.Cond.code ({ cls := "GardenChess$Chain", name := "two", desc := "(CJJ)J" } : Jvm.MethodName) prog_5_method_4_code (5 : Nat) (Option.some Jvm.ClassFile.FieldType.long)) ∈ lw_all := lw_g (lw_at lw_m6 187 rfl) rfl
theorem q1549 : (Jvm.Cond.methodLink "GardenChess$Chain" (61 : Nat) ({ cls := "java/lang/Math", name := "floorDiv", desc := "(JJ)J" } : Jvm.MethodName)) ∈ lw_all := lw_g (lw_at lw_m6 188 rfl) rfl
theorem q1552 : (Jvm.Cond.methodLinkNest "GardenChess$Chain" (55 : Nat) ({ cls := "GardenChess", name := "held", desc := "(J)J" } : Jvm.MethodName) "GardenChess") ∈ lw_tbl := lw_at lw_m6 191 rfl
theorem q2797 : (Jvm.Cond.castable "GardenChess$Chain" "GardenChess$Value") ∈ lw_tbl := lw_at lw_m11 236 rfl
theorem q2819 : (Jvm.Cond.castable "GardenChess$Chain" "java/lang/Object") ∈ lw_tbl := lw_at lw_m12 18 rfl
theorem q193 : (Jvm.Cond.initialized "GardenChess$Pair") ∈ lw_all := lw_g (lw_at lw_m1 32 rfl) rfl
theorem q983 : (Jvm.Cond.selects "GardenChess$Pair" ({ cls := "java/lang/Object", name := "getClass", desc := "()Ljava/lang/Class;" } : Jvm.MethodName) ({ cls := "java/lang/Object", name := "getClass", desc := "()Ljava/lang/Class;" } : Jvm.MethodName)) ∈ lw_all := lw_g (lw_at lw_m4 102 rfl) rfl
theorem q1139 : (Jvm.Cond.instantiable "GardenChess$Pair" (3 : Nat)) ∈ lw_all := lw_g (lw_at lw_m5 18 rfl) rfl
theorem q1141 : (Jvm.Cond.instanceMethod ({ cls := "GardenChess$Pair", name := "<init>", desc := "(ZLGardenChess$Value;LGardenChess$Value;)V" } : Jvm.MethodName)) ∈ lw_all := lw_g (lw_at lw_m5 20 rfl) rfl
theorem q1142 : (Jvm.Cond.code ({ cls := "GardenChess$Pair", name := "<init>", desc := "(ZLGardenChess$Value;LGardenChess$Value;)V" } : Jvm.MethodName) prog_17_method_1_code (4 : Nat) (Option.none : Option Jvm.ClassFile.FieldType)) ∈ lw_all := lw_g (lw_at lw_m5 21 rfl) rfl
theorem q1143 : (Jvm.Cond.methodLinkNest "GardenChess$Pair" (1 : Nat) ({ cls := "GardenChess$Value", name := "<init>", desc := "()V" } : Jvm.MethodName) "GardenChess") ∈ lw_tbl := lw_at lw_m5 22 rfl
theorem q1144 : (Jvm.Cond.fieldLink "GardenChess$Pair" (7 : Nat) "GardenChess$Pair" "most" "Z") ∈ lw_all := lw_g (lw_at lw_m5 23 rfl) rfl
theorem q1145 : (Jvm.Cond.fieldLink "GardenChess$Pair" (13 : Nat) "GardenChess$Pair" "first" "LGardenChess$Value;") ∈ lw_all := lw_g (lw_at lw_m5 24 rfl) rfl
theorem q1146 : (Jvm.Cond.fieldLink "GardenChess$Pair" (17 : Nat) "GardenChess$Pair" "second" "LGardenChess$Value;") ∈ lw_all := lw_g (lw_at lw_m5 25 rfl) rfl
theorem q1147 : (Jvm.Cond.laysFinal "GardenChess$Pair" "GardenChess$Pair" "most" "Z") ∈ lw_all := lw_g (lw_at lw_m5 26 rfl) rfl
theorem q1148 : (Jvm.Cond.soleField "GardenChess$Pair" "most") ∈ lw_all := lw_g (lw_at lw_m5 27 rfl) rfl
theorem q1149 : (Jvm.Cond.laysFinal "GardenChess$Pair" "GardenChess$Pair" "first" "LGardenChess$Value;") ∈ lw_all := lw_g (lw_at lw_m5 28 rfl) rfl
theorem q1150 : (Jvm.Cond.soleField "GardenChess$Pair" "first") ∈ lw_all := lw_g (lw_at lw_m5 29 rfl) rfl
theorem q1151 : (Jvm.Cond.laysFinal "GardenChess$Pair" "GardenChess$Pair" "second" "LGardenChess$Value;") ∈ lw_all := lw_g (lw_at lw_m5 30 rfl) rfl
theorem q1152 : (Jvm.Cond.soleField "GardenChess$Pair" "second") ∈ lw_all := lw_g (lw_at lw_m5 31 rfl) rfl
theorem q1153 : (Jvm.Cond.superclass "GardenChess$Pair" "GardenChess$Value") ∈ lw_all := lw_g (lw_at lw_m5 32 rfl) rfl
theorem q1525 : (Jvm.Cond.instanceMethod ({ cls := "GardenChess$Pair", name := "at", desc := "(LGardenChess$Moment;)J" } : Jvm.MethodName)) ∈ lw_all := lw_g (lw_at lw_m6 164 rfl) rfl
theorem q1526 : (Jvm.Cond.code ({ cls := "GardenChess$Pair", name := "at", desc := "(LGardenChess$Moment;)J" } : Jvm.MethodName) prog_17_method_2_code (6 : Nat) (Option.some Jvm.ClassFile.FieldType.long)) ∈ lw_all := lw_g (lw_at lw_m6 165 rfl) rfl
theorem q1527 : (Jvm.Cond.methodLink "GardenChess$Pair" (20 : Nat) ({ cls := "GardenChess$Value", name := "at", desc := "(LGardenChess$Moment;)J" } : Jvm.MethodName)) ∈ lw_all := lw_g (lw_at lw_m6 166 rfl) rfl
theorem q1555 : (Jvm.Cond.selects "GardenChess$Pair" ({ cls := "GardenChess$Value", name := "at", desc := "(LGardenChess$Moment;)J" } : Jvm.MethodName) ({ cls := "GardenChess$Pair", name := "at", desc := "(LGardenChess$Moment;)J" } : Jvm.MethodName)) ∈ lw_all := lw_g (lw_at lw_m6 194 rfl) rfl
theorem q2800 : (Jvm.Cond.castable "GardenChess$Pair" "GardenChess$Value") ∈ lw_tbl := lw_at lw_m11 239 rfl
theorem q2821 : (Jvm.Cond.castable "GardenChess$Pair" "java/lang/Object") ∈ lw_tbl := lw_at lw_m12 20 rfl
theorem q194 : (Jvm.Cond.initialized "GardenChess$Fixed") ∈ lw_all := lw_g (lw_at lw_m1 33 rfl) rfl
theorem q976 : (Jvm.Cond.selects "GardenChess$Fixed" ({ cls := "java/lang/Object", name := "getClass", desc := "()Ljava/lang/Class;" } : Jvm.MethodName) ({ cls := "java/lang/Object", name := "getClass", desc := "()Ljava/lang/Class;" } : Jvm.MethodName)) ∈ lw_all := lw_g (lw_at lw_m4 95 rfl) rfl
theorem q1155 : (Jvm.Cond.instantiable "GardenChess$Fixed" (1 : Nat)) ∈ lw_all := lw_g (lw_at lw_m5 34 rfl) rfl
theorem q1157 : (Jvm.Cond.instanceMethod ({ cls := "GardenChess$Fixed", name := "<init>", desc := "(J)V" } : Jvm.MethodName)) ∈ lw_all := lw_g (lw_at lw_m5 36 rfl) rfl
theorem q1158 : (Jvm.Cond.code ({ cls := "GardenChess$Fixed", name := "<init>", desc := "(J)V" } : Jvm.MethodName) prog_9_method_1_code (3 : Nat) (Option.none : Option Jvm.ClassFile.FieldType)) ∈ lw_all := lw_g (lw_at lw_m5 37 rfl) rfl
theorem q1159 : (Jvm.Cond.methodLinkNest "GardenChess$Fixed" (1 : Nat) ({ cls := "GardenChess$Value", name := "<init>", desc := "()V" } : Jvm.MethodName) "GardenChess") ∈ lw_tbl := lw_at lw_m5 38 rfl
theorem q1160 : (Jvm.Cond.fieldLink "GardenChess$Fixed" (7 : Nat) "GardenChess$Fixed" "value" "J") ∈ lw_all := lw_g (lw_at lw_m5 39 rfl) rfl
theorem q1161 : (Jvm.Cond.laysFinal "GardenChess$Fixed" "GardenChess$Fixed" "value" "J") ∈ lw_all := lw_g (lw_at lw_m5 40 rfl) rfl
theorem q1162 : (Jvm.Cond.soleField "GardenChess$Fixed" "value") ∈ lw_all := lw_g (lw_at lw_m5 41 rfl) rfl
theorem q1163 : (Jvm.Cond.superclass "GardenChess$Fixed" "GardenChess$Value") ∈ lw_all := lw_g (lw_at lw_m5 42 rfl) rfl
theorem q1520 : (Jvm.Cond.instanceMethod ({ cls := "GardenChess$Fixed", name := "at", desc := "(LGardenChess$Moment;)J" } : Jvm.MethodName)) ∈ lw_all := lw_g (lw_at lw_m6 159 rfl) rfl
theorem q1521 : (Jvm.Cond.code ({ cls := "GardenChess$Fixed", name := "at", desc := "(LGardenChess$Moment;)J" } : Jvm.MethodName) prog_9_method_2_code (2 : Nat) (Option.some Jvm.ClassFile.FieldType.long)) ∈ lw_all := lw_g (lw_at lw_m6 160 rfl) rfl
theorem q1553 : (Jvm.Cond.selects "GardenChess$Fixed" ({ cls := "GardenChess$Value", name := "at", desc := "(LGardenChess$Moment;)J" } : Jvm.MethodName) ({ cls := "GardenChess$Fixed", name := "at", desc := "(LGardenChess$Moment;)J" } : Jvm.MethodName)) ∈ lw_all := lw_g (lw_at lw_m6 192 rfl) rfl
theorem q2798 : (Jvm.Cond.castable "GardenChess$Fixed" "GardenChess$Value") ∈ lw_tbl := lw_at lw_m11 237 rfl
theorem q2822 : (Jvm.Cond.castable "GardenChess$Fixed" "java/lang/Object") ∈ lw_tbl := lw_at lw_m12 21 rfl
theorem q195 : (Jvm.Cond.initialized "GardenChess$Asked") ∈ lw_all := lw_g (lw_at lw_m1 34 rfl) rfl
theorem q407 : (Jvm.Cond.fieldLinkNest "GardenChess$Asked" (13 : Nat) "GardenChess$Moment" "of" "[J" "GardenChess") ∈ lw_tbl := lw_at lw_m2 6 rfl
theorem q970 : (Jvm.Cond.selects "GardenChess$Asked" ({ cls := "java/lang/Object", name := "getClass", desc := "()Ljava/lang/Class;" } : Jvm.MethodName) ({ cls := "java/lang/Object", name := "getClass", desc := "()Ljava/lang/Class;" } : Jvm.MethodName)) ∈ lw_all := lw_g (lw_at lw_m4 89 rfl) rfl
theorem q1170 : (Jvm.Cond.instantiable "GardenChess$Asked" (1 : Nat)) ∈ lw_all := lw_g (lw_at lw_m5 49 rfl) rfl
theorem q1172 : (Jvm.Cond.instanceMethod ({ cls := "GardenChess$Asked", name := "<init>", desc := "(I)V" } : Jvm.MethodName)) ∈ lw_all := lw_g (lw_at lw_m5 51 rfl) rfl
theorem q1173 : (Jvm.Cond.code ({ cls := "GardenChess$Asked", name := "<init>", desc := "(I)V" } : Jvm.MethodName) prog_3_method_1_code (2 : Nat) (Option.none : Option Jvm.ClassFile.FieldType)) ∈ lw_all := lw_g (lw_at lw_m5 52 rfl) rfl
theorem q1174 : (Jvm.Cond.methodLinkNest "GardenChess$Asked" (1 : Nat) ({ cls := "GardenChess$Value", name := "<init>", desc := "()V" } : Jvm.MethodName) "GardenChess") ∈ lw_tbl := lw_at lw_m5 53 rfl
theorem q1175 : (Jvm.Cond.fieldLink "GardenChess$Asked" (7 : Nat) "GardenChess$Asked" "what" "I") ∈ lw_all := lw_g (lw_at lw_m5 54 rfl) rfl
theorem q1176 : (Jvm.Cond.laysFinal "GardenChess$Asked" "GardenChess$Asked" "what" "I") ∈ lw_all := lw_g (lw_at lw_m5 55 rfl) rfl
theorem q1177 : (Jvm.Cond.soleField "GardenChess$Asked" "what") ∈ lw_all := lw_g (lw_at lw_m5 56 rfl) rfl
theorem q1178 : (Jvm.Cond.superclass "GardenChess$Asked" "GardenChess$Value") ∈ lw_all := lw_g (lw_at lw_m5 57 rfl) rfl
theorem q1499 : (Jvm.Cond.selects "GardenChess$Asked" ({ cls := "GardenChess$Value", name := "at", desc := "(LGardenChess$Moment;)J" } : Jvm.MethodName) ({ cls := "GardenChess$Asked", name := "at", desc := "(LGardenChess$Moment;)J" } : Jvm.MethodName)) ∈ lw_all := lw_g (lw_at lw_m6 138 rfl) rfl
theorem q1500 : (Jvm.Cond.instanceMethod ({ cls := "GardenChess$Asked", name := "at", desc := "(LGardenChess$Moment;)J" } : Jvm.MethodName)) ∈ lw_all := lw_g (lw_at lw_m6 139 rfl) rfl
theorem q1501 : (Jvm.Cond.code ({ cls := "GardenChess$Asked", name := "at", desc := "(LGardenChess$Moment;)J" } : Jvm.MethodName) prog_3_method_2_code (2 : Nat) (Option.some Jvm.ClassFile.FieldType.long)) ∈ lw_all := lw_g (lw_at lw_m6 140 rfl) rfl
theorem q1502 : (Jvm.Cond.methodLinkNest "GardenChess$Asked" (19 : Nat) ({ cls := "GardenChess", name := "held", desc := "(J)J" } : Jvm.MethodName) "GardenChess") ∈ lw_tbl := lw_at lw_m6 141 rfl
theorem q2796 : (Jvm.Cond.castable "GardenChess$Asked" "GardenChess$Value") ∈ lw_tbl := lw_at lw_m11 235 rfl
theorem q2823 : (Jvm.Cond.castable "GardenChess$Asked" "java/lang/Object") ∈ lw_tbl := lw_at lw_m12 22 rfl
theorem q196 : (Jvm.Cond.initialized "GardenChess$Looked") ∈ lw_all := lw_g (lw_at lw_m1 35 rfl) rfl
theorem q978 : (Jvm.Cond.selects "GardenChess$Looked" ({ cls := "java/lang/Object", name := "getClass", desc := "()Ljava/lang/Class;" } : Jvm.MethodName) ({ cls := "java/lang/Object", name := "getClass", desc := "()Ljava/lang/Class;" } : Jvm.MethodName)) ∈ lw_all := lw_g (lw_at lw_m4 97 rfl) rfl
theorem q1186 : (Jvm.Cond.instantiable "GardenChess$Looked" (3 : Nat)) ∈ lw_all := lw_g (lw_at lw_m5 65 rfl) rfl
theorem q1188 : (Jvm.Cond.instanceMethod ({ cls := "GardenChess$Looked", name := "<init>", desc := "(LGardenChess;ILGardenChess$Value;)V" } : Jvm.MethodName)) ∈ lw_all := lw_g (lw_at lw_m5 67 rfl) rfl
theorem q1189 : (Jvm.Cond.code ({ cls := "GardenChess$Looked", name := "<init>", desc := "(LGardenChess;ILGardenChess$Value;)V" } : Jvm.MethodName) prog_11_method_1_code (4 : Nat) (Option.none : Option Jvm.ClassFile.FieldType)) ∈ lw_all := lw_g (lw_at lw_m5 68 rfl) rfl
theorem q1190 : (Jvm.Cond.methodLinkNest "GardenChess$Looked" (7 : Nat) ({ cls := "GardenChess$Value", name := "<init>", desc := "()V" } : Jvm.MethodName) "GardenChess") ∈ lw_tbl := lw_at lw_m5 69 rfl
theorem q1191 : (Jvm.Cond.fieldLink "GardenChess$Looked" (13 : Nat) "GardenChess$Looked" "what" "I") ∈ lw_all := lw_g (lw_at lw_m5 70 rfl) rfl
theorem q1192 : (Jvm.Cond.fieldLink "GardenChess$Looked" (17 : Nat) "GardenChess$Looked" "of" "LGardenChess$Value;") ∈ lw_all := lw_g (lw_at lw_m5 71 rfl) rfl
theorem q1193 : (Jvm.Cond.fieldLink "GardenChess$Looked" (1 : Nat) "GardenChess$Looked" "this$0" "LGardenChess;") ∈ lw_all := lw_g (lw_at lw_m5 72 rfl) rfl
theorem q1194 : (Jvm.Cond.laysFinal "GardenChess$Looked" "GardenChess$Looked" "what" "I") ∈ lw_all := lw_g (lw_at lw_m5 73 rfl) rfl
theorem q1195 : (Jvm.Cond.soleField "GardenChess$Looked" "what") ∈ lw_all := lw_g (lw_at lw_m5 74 rfl) rfl
theorem q1196 : (Jvm.Cond.laysFinal "GardenChess$Looked" "GardenChess$Looked" "of" "LGardenChess$Value;") ∈ lw_all := lw_g (lw_at lw_m5 75 rfl) rfl
theorem q1197 : (Jvm.Cond.soleField "GardenChess$Looked" "of") ∈ lw_all := lw_g (lw_at lw_m5 76 rfl) rfl
theorem q1198 : (Jvm.Cond.laysFinal "GardenChess$Looked" "GardenChess$Looked" "this$0" "LGardenChess;") ∈ lw_all := lw_g (lw_at lw_m5 77 rfl) rfl
theorem q1199 : (Jvm.Cond.soleField "GardenChess$Looked" "this$0") ∈ lw_all := lw_g (lw_at lw_m5 78 rfl) rfl
theorem q1200 : (Jvm.Cond.superclass "GardenChess$Looked" "GardenChess$Value") ∈ lw_all := lw_g (lw_at lw_m5 79 rfl) rfl
theorem q1522 : (Jvm.Cond.instanceMethod ({ cls := "GardenChess$Looked", name := "at", desc := "(LGardenChess$Moment;)J" } : Jvm.MethodName)) ∈ lw_all := lw_g (lw_at lw_m6 161 rfl) rfl
theorem q1523 : (Jvm.Cond.code ({ cls := "GardenChess$Looked", name := "at", desc := "(LGardenChess$Moment;)J" } : Jvm.MethodName) prog_11_method_2_code (2 : Nat) (Option.some Jvm.ClassFile.FieldType.long)) ∈ lw_all := lw_g (lw_at lw_m6 162 rfl) rfl
theorem q1524 : (Jvm.Cond.methodLink "GardenChess$Looked" (21 : Nat) ({ cls := "GardenChess$Value", name := "at", desc := "(LGardenChess$Moment;)J" } : Jvm.MethodName)) ∈ lw_all := lw_g (lw_at lw_m6 163 rfl) rfl
theorem q1528 : (Jvm.Cond.methodLinkNest "GardenChess$Looked" (25 : Nat) ({ cls := "GardenChess", name := "looked", desc := "(IJ)J" } : Jvm.MethodName) "GardenChess") ∈ lw_tbl := lw_at lw_m6 167 rfl
theorem q1533 : (Jvm.Cond.methodLinkNest "GardenChess$Looked" (31 : Nat) ({ cls := "GardenChess", name := "held", desc := "(J)J" } : Jvm.MethodName) "GardenChess") ∈ lw_tbl := lw_at lw_m6 172 rfl
theorem q1554 : (Jvm.Cond.selects "GardenChess$Looked" ({ cls := "GardenChess$Value", name := "at", desc := "(LGardenChess$Moment;)J" } : Jvm.MethodName) ({ cls := "GardenChess$Looked", name := "at", desc := "(LGardenChess$Moment;)J" } : Jvm.MethodName)) ∈ lw_all := lw_g (lw_at lw_m6 193 rfl) rfl
theorem q2799 : (Jvm.Cond.castable "GardenChess$Looked" "GardenChess$Value") ∈ lw_tbl := lw_at lw_m11 238 rfl
theorem q2824 : (Jvm.Cond.castable "GardenChess$Looked" "java/lang/Object") ∈ lw_tbl := lw_at lw_m12 23 rfl
theorem q198 : (Jvm.Cond.initialized "GardenChess$Question") ∈ lw_all := lw_g (lw_at lw_m1 37 rfl) rfl
theorem q984 : (Jvm.Cond.selects "GardenChess$Question" ({ cls := "java/lang/Object", name := "getClass", desc := "()Ljava/lang/Class;" } : Jvm.MethodName) ({ cls := "java/lang/Object", name := "getClass", desc := "()Ljava/lang/Class;" } : Jvm.MethodName)) ∈ lw_all := lw_g (lw_at lw_m4 103 rfl) rfl
theorem q1659 : (Jvm.Cond.instantiable "GardenChess$Question" (5 : Nat)) ∈ lw_all := lw_g (lw_at lw_m7 58 rfl) rfl
theorem q1729 : (Jvm.Cond.instanceMethod ({ cls := "GardenChess$Question", name := "<init>", desc := "(ILGardenChess$Test;LGardenChess$Value;)V" } : Jvm.MethodName)) ∈ lw_all := lw_g (lw_at lw_m7 128 rfl) rfl
theorem q1730 : (Jvm.Cond.code ({ cls := "GardenChess$Question", name := "<init>", desc := "(ILGardenChess$Test;LGardenChess$Value;)V" } : Jvm.MethodName) prog_18_method_1_code (4 : Nat) (Option.none : Option Jvm.ClassFile.FieldType)) ∈ lw_all := lw_g (lw_at lw_m7 129 rfl) rfl
theorem q1731 : (Jvm.Cond.methodLink "GardenChess$Question" (3 : Nat) ({ cls := "java/lang/Object", name := "<init>", desc := "()V" } : Jvm.MethodName)) ∈ lw_all := lw_g (lw_at lw_m7 130 rfl) rfl
theorem q1732 : (Jvm.Cond.constantLong "GardenChess$Question" (9 : Nat) (-1 : Int64)) ∈ lw_all := lw_g (lw_at lw_m7 131 rfl) rfl
theorem q1733 : (Jvm.Cond.fieldLink "GardenChess$Question" (17 : Nat) "GardenChess$Question" "what" "I") ∈ lw_all := lw_g (lw_at lw_m7 132 rfl) rfl
theorem q1734 : (Jvm.Cond.fieldLink "GardenChess$Question" (21 : Nat) "GardenChess$Question" "test" "LGardenChess$Test;") ∈ lw_all := lw_g (lw_at lw_m7 133 rfl) rfl
theorem q1735 : (Jvm.Cond.fieldLink "GardenChess$Question" (25 : Nat) "GardenChess$Question" "sum" "LGardenChess$Value;") ∈ lw_all := lw_g (lw_at lw_m7 134 rfl) rfl
theorem q1736 : (Jvm.Cond.fieldLink "GardenChess$Question" (11 : Nat) "GardenChess$Question" "found" "J") ∈ lw_all := lw_g (lw_at lw_m7 135 rfl) rfl
theorem q1737 : (Jvm.Cond.fieldLink "GardenChess$Question" (41 : Nat) "GardenChess$Question" "has" "Z") ∈ lw_all := lw_g (lw_at lw_m7 136 rfl) rfl
theorem q1738 : (Jvm.Cond.laysFinal "GardenChess$Question" "GardenChess$Question" "what" "I") ∈ lw_all := lw_g (lw_at lw_m7 137 rfl) rfl
theorem q1739 : (Jvm.Cond.soleField "GardenChess$Question" "what") ∈ lw_all := lw_g (lw_at lw_m7 138 rfl) rfl
theorem q1740 : (Jvm.Cond.laysFinal "GardenChess$Question" "GardenChess$Question" "test" "LGardenChess$Test;") ∈ lw_all := lw_g (lw_at lw_m7 139 rfl) rfl
theorem q1741 : (Jvm.Cond.soleField "GardenChess$Question" "test") ∈ lw_all := lw_g (lw_at lw_m7 140 rfl) rfl
theorem q1742 : (Jvm.Cond.laysFinal "GardenChess$Question" "GardenChess$Question" "sum" "LGardenChess$Value;") ∈ lw_all := lw_g (lw_at lw_m7 141 rfl) rfl
theorem q1743 : (Jvm.Cond.soleField "GardenChess$Question" "sum") ∈ lw_all := lw_g (lw_at lw_m7 142 rfl) rfl
theorem q1744 : (Jvm.Cond.lays "GardenChess$Question" "GardenChess$Question" "found" "J") ∈ lw_all := lw_g (lw_at lw_m7 143 rfl) rfl
theorem q1745 : (Jvm.Cond.soleField "GardenChess$Question" "found") ∈ lw_all := lw_g (lw_at lw_m7 144 rfl) rfl
theorem q1746 : (Jvm.Cond.lays "GardenChess$Question" "GardenChess$Question" "has" "Z") ∈ lw_all := lw_g (lw_at lw_m7 145 rfl) rfl
theorem q1747 : (Jvm.Cond.soleField "GardenChess$Question" "has") ∈ lw_all := lw_g (lw_at lw_m7 146 rfl) rfl
theorem q1748 : (Jvm.Cond.superclass "GardenChess$Question" "java/lang/Object") ∈ lw_all := lw_g (lw_at lw_m7 147 rfl) rfl
theorem q1750 : (Jvm.Cond.instanceMethod ({ cls := "GardenChess$Question", name := "meets", desc := "(ILGardenChess$Moment;)V" } : Jvm.MethodName)) ∈ lw_all := lw_g (lw_at lw_m7 149 rfl) rfl
theorem q1751 : (Jvm.Cond.selects "GardenChess$Question" ({ cls := "GardenChess$Question", name := "meets", desc := "(ILGardenChess$Moment;)V" } : Jvm.MethodName) ({ cls := "GardenChess$Question", name := "meets", desc := "(ILGardenChess$Moment;)V" } : Jvm.MethodName)) ∈ lw_all := lw_g (lw_at lw_m7 150 rfl) rfl
theorem q1752 : (Jvm.Cond.code ({ cls := "GardenChess$Question", name := "meets", desc := "(ILGardenChess$Moment;)V" } : Jvm.MethodName) prog_18_method_2_code (5 : Nat) (Option.none : Option Jvm.ClassFile.FieldType)) ∈ lw_all := lw_g (lw_at lw_m7 151 rfl) rfl
theorem q1753 : (Jvm.Cond.methodLink "GardenChess$Question" (29 : Nat) ({ cls := "GardenChess$Test", name := "holds", desc := "(LGardenChess$Moment;)Z" } : Jvm.MethodName)) ∈ lw_all := lw_g (lw_at lw_m7 152 rfl) rfl
theorem q1776 : (Jvm.Cond.methodLink "GardenChess$Question" (35 : Nat) ({ cls := "java/lang/Math", name := "max", desc := "(JJ)J" } : Jvm.MethodName)) ∈ lw_all := lw_g (lw_at lw_m7 175 rfl) rfl
theorem q1777 : (Jvm.Cond.methodLink "GardenChess$Question" (45 : Nat) ({ cls := "GardenChess$Value", name := "at", desc := "(LGardenChess$Moment;)J" } : Jvm.MethodName)) ∈ lw_all := lw_g (lw_at lw_m7 176 rfl) rfl
theorem q1778 : (Jvm.Cond.methodLink "GardenChess$Question" (51 : Nat) ({ cls := "java/lang/Math", name := "min", desc := "(JJ)J" } : Jvm.MethodName)) ∈ lw_all := lw_g (lw_at lw_m7 177 rfl) rfl
theorem q1780 : (Jvm.Cond.instanceMethod ({ cls := "GardenChess$Question", name := "answer", desc := "()J" } : Jvm.MethodName)) ∈ lw_all := lw_g (lw_at lw_m7 179 rfl) rfl
theorem q1781 : (Jvm.Cond.selects "GardenChess$Question" ({ cls := "GardenChess$Question", name := "answer", desc := "()J" } : Jvm.MethodName) ({ cls := "GardenChess$Question", name := "answer", desc := "()J" } : Jvm.MethodName)) ∈ lw_all := lw_g (lw_at lw_m7 180 rfl) rfl
theorem q1782 : (Jvm.Cond.code ({ cls := "GardenChess$Question", name := "answer", desc := "()J" } : Jvm.MethodName) prog_18_method_3_code (1 : Nat) (Option.some Jvm.ClassFile.FieldType.long)) ∈ lw_all := lw_g (lw_at lw_m7 181 rfl) rfl
theorem q2825 : (Jvm.Cond.castable "GardenChess$Question" "java/lang/Object") ∈ lw_tbl := lw_at lw_m12 24 rfl
theorem q199 : (Jvm.Cond.initialized "GardenChess$Test") ∈ lw_all := lw_g (lw_at lw_m1 38 rfl) rfl
theorem q1670 : (Jvm.Cond.instanceMethod ({ cls := "GardenChess$Test", name := "<init>", desc := "()V" } : Jvm.MethodName)) ∈ lw_all := lw_g (lw_at lw_m7 69 rfl) rfl
theorem q1671 : (Jvm.Cond.code ({ cls := "GardenChess$Test", name := "<init>", desc := "()V" } : Jvm.MethodName) prog_21_method_1_code (1 : Nat) (Option.none : Option Jvm.ClassFile.FieldType)) ∈ lw_all := lw_g (lw_at lw_m7 70 rfl) rfl
theorem q1672 : (Jvm.Cond.methodLink "GardenChess$Test" (1 : Nat) ({ cls := "java/lang/Object", name := "<init>", desc := "()V" } : Jvm.MethodName)) ∈ lw_all := lw_g (lw_at lw_m7 71 rfl) rfl
theorem q1754 : (Jvm.Cond.declares ({ cls := "GardenChess$Test", name := "holds", desc := "(LGardenChess$Moment;)Z" } : Jvm.MethodName)) ∈ lw_tbl := lw_at lw_m7 153 rfl
theorem q1755 : (Jvm.Cond.sameMethod "GardenChess$Test" "GardenChess$Test" "holds" "(LGardenChess$Moment;)Z") ∈ lw_all := lw_g (lw_at lw_m7 154 rfl) rfl
theorem q167 : (Jvm.Cond.initialized "GardenChess$Reader") ∈ lw_all := lw_g (lw_at lw_m1 6 rfl) rfl
theorem q248 : (Jvm.Cond.fieldLinkNest "GardenChess$Reader" (147 : Nat) "GardenChess$Board" "statements" "I" "GardenChess") ∈ lw_tbl := lw_at lw_m1 87 rfl
theorem q251 : (Jvm.Cond.fieldLinkNest "GardenChess$Reader" (124 : Nat) "GardenChess$Board" "columns" "I" "GardenChess") ∈ lw_tbl := lw_at lw_m1 90 rfl
theorem q253 : (Jvm.Cond.fieldLinkNest "GardenChess$Reader" (132 : Nat) "GardenChess$Board" "rows" "I" "GardenChess") ∈ lw_tbl := lw_at lw_m1 92 rfl
theorem q255 : (Jvm.Cond.fieldLinkNest "GardenChess$Reader" (230 : Nat) "GardenChess$Board" "grows" "I" "GardenChess") ∈ lw_tbl := lw_at lw_m1 94 rfl
theorem q257 : (Jvm.Cond.fieldLinkNest "GardenChess$Reader" (232 : Nat) "GardenChess$Board" "sleepy" "I" "GardenChess") ∈ lw_tbl := lw_at lw_m1 96 rfl
theorem q260 : (Jvm.Cond.fieldLinkNest "GardenChess$Reader" (135 : Nat) "GardenChess$Board" "looks" "[I" "GardenChess") ∈ lw_tbl := lw_at lw_m1 99 rfl
theorem q264 : (Jvm.Cond.fieldLinkNest "GardenChess$Reader" (172 : Nat) "GardenChess$Board" "kinds" "Ljava/util/List;" "GardenChess") ∈ lw_tbl := lw_at lw_m1 103 rfl
theorem q268 : (Jvm.Cond.fieldLinkNest "GardenChess$Reader" (206 : Nat) "GardenChess$Board" "men" "Ljava/util/List;" "GardenChess") ∈ lw_tbl := lw_at lw_m1 107 rfl
theorem q272 : (Jvm.Cond.fieldLinkNest "GardenChess$Reader" (211 : Nat) "GardenChess$Board" "fields" "Ljava/util/List;" "GardenChess") ∈ lw_tbl := lw_at lw_m1 111 rfl
theorem q274 : (Jvm.Cond.fieldLinkNest "GardenChess$Reader" (220 : Nat) "GardenChess$Board" "harm" "LGardenChess$Value;" "GardenChess") ∈ lw_tbl := lw_at lw_m1 113 rfl
theorem q297 : (Jvm.Cond.instantiable "GardenChess$Reader" (8 : Nat)) ∈ lw_all := lw_g (lw_at lw_m1 136 rfl) rfl
theorem q299 : (Jvm.Cond.instanceMethod ({ cls := "GardenChess$Reader", name := "<init>", desc := "(LGardenChess;)V" } : Jvm.MethodName)) ∈ lw_all := lw_g (lw_at lw_m1 138 rfl) rfl
theorem q300 : (Jvm.Cond.code ({ cls := "GardenChess$Reader", name := "<init>", desc := "(LGardenChess;)V" } : Jvm.MethodName) prog_19_method_1_code (2 : Nat) (Option.none : Option Jvm.ClassFile.FieldType)) ∈ lw_all := lw_g (lw_at lw_m1 139 rfl) rfl
theorem q301 : (Jvm.Cond.methodLink "GardenChess$Reader" (9 : Nat) ({ cls := "java/lang/Object", name := "<init>", desc := "()V" } : Jvm.MethodName)) ∈ lw_all := lw_g (lw_at lw_m1 140 rfl) rfl
theorem q302 : (Jvm.Cond.classLink "GardenChess$Reader" (15 : Nat) "GardenChess$Fault") ∈ lw_all := lw_g (lw_at lw_m1 141 rfl) rfl
theorem q341 : (Jvm.Cond.methodLink "GardenChess$Reader" (17 : Nat) ({ cls := "GardenChess$Fault", name := "<init>", desc := "()V" } : Jvm.MethodName)) ∈ lw_all := lw_g (lw_at lw_m1 180 rfl) rfl
theorem q353 : (Jvm.Cond.fieldLinkNest "GardenChess$Reader" (22 : Nat) "GardenChess$Fault" "kind" "I" "GardenChess") ∈ lw_tbl := lw_at lw_m1 192 rfl
theorem q355 : (Jvm.Cond.fieldLinkNest "GardenChess$Reader" (26 : Nat) "GardenChess$Fault" "place" "I" "GardenChess") ∈ lw_tbl := lw_at lw_m1 194 rfl
theorem q375 : (Jvm.Cond.fieldLink "GardenChess$Reader" (18 : Nat) "GardenChess$Reader" "fault" "LGardenChess$Fault;") ∈ lw_all := lw_g (lw_at lw_m1 214 rfl) rfl
theorem q376 : (Jvm.Cond.fieldLink "GardenChess$Reader" (29 : Nat) "GardenChess$Reader" "size" "I") ∈ lw_all := lw_g (lw_at lw_m1 215 rfl) rfl
theorem q377 : (Jvm.Cond.fieldLink "GardenChess$Reader" (36 : Nat) "GardenChess$Reader" "at" "I") ∈ lw_all := lw_g (lw_at lw_m1 216 rfl) rfl
theorem q378 : (Jvm.Cond.fieldLink "GardenChess$Reader" (61 : Nat) "GardenChess$Reader" "from" "I") ∈ lw_all := lw_g (lw_at lw_m1 217 rfl) rfl
theorem q379 : (Jvm.Cond.fieldLink "GardenChess$Reader" (119 : Nat) "GardenChess$Reader" "open" "I") ∈ lw_all := lw_g (lw_at lw_m1 218 rfl) rfl
theorem q380 : (Jvm.Cond.fieldLink "GardenChess$Reader" (223 : Nat) "GardenChess$Reader" "context" "I") ∈ lw_all := lw_g (lw_at lw_m1 219 rfl) rfl
theorem q381 : (Jvm.Cond.fieldLink "GardenChess$Reader" (103 : Nat) "GardenChess$Reader" "to" "LGardenChess$Board;") ∈ lw_all := lw_g (lw_at lw_m1 220 rfl) rfl
theorem q382 : (Jvm.Cond.fieldLink "GardenChess$Reader" (3 : Nat) "GardenChess$Reader" "this$0" "LGardenChess;") ∈ lw_all := lw_g (lw_at lw_m1 221 rfl) rfl
theorem q383 : (Jvm.Cond.laysFinal "GardenChess$Reader" "GardenChess$Reader" "fault" "LGardenChess$Fault;") ∈ lw_all := lw_g (lw_at lw_m1 222 rfl) rfl
theorem q384 : (Jvm.Cond.soleField "GardenChess$Reader" "fault") ∈ lw_all := lw_g (lw_at lw_m1 223 rfl) rfl
theorem q385 : (Jvm.Cond.lays "GardenChess$Reader" "GardenChess$Reader" "size" "I") ∈ lw_all := lw_g (lw_at lw_m1 224 rfl) rfl
theorem q386 : (Jvm.Cond.soleField "GardenChess$Reader" "size") ∈ lw_all := lw_g (lw_at lw_m1 225 rfl) rfl
theorem q387 : (Jvm.Cond.lays "GardenChess$Reader" "GardenChess$Reader" "at" "I") ∈ lw_all := lw_g (lw_at lw_m1 226 rfl) rfl
theorem q388 : (Jvm.Cond.soleField "GardenChess$Reader" "at") ∈ lw_all := lw_g (lw_at lw_m1 227 rfl) rfl
theorem q389 : (Jvm.Cond.lays "GardenChess$Reader" "GardenChess$Reader" "from" "I") ∈ lw_all := lw_g (lw_at lw_m1 228 rfl) rfl
theorem q390 : (Jvm.Cond.soleField "GardenChess$Reader" "from") ∈ lw_all := lw_g (lw_at lw_m1 229 rfl) rfl
theorem q391 : (Jvm.Cond.lays "GardenChess$Reader" "GardenChess$Reader" "open" "I") ∈ lw_all := lw_g (lw_at lw_m1 230 rfl) rfl
theorem q392 : (Jvm.Cond.soleField "GardenChess$Reader" "open") ∈ lw_all := lw_g (lw_at lw_m1 231 rfl) rfl
theorem q393 : (Jvm.Cond.lays "GardenChess$Reader" "GardenChess$Reader" "context" "I") ∈ lw_all := lw_g (lw_at lw_m1 232 rfl) rfl
theorem q394 : (Jvm.Cond.soleField "GardenChess$Reader" "context") ∈ lw_all := lw_g (lw_at lw_m1 233 rfl) rfl
theorem q395 : (Jvm.Cond.lays "GardenChess$Reader" "GardenChess$Reader" "to" "LGardenChess$Board;") ∈ lw_all := lw_g (lw_at lw_m1 234 rfl) rfl
theorem q396 : (Jvm.Cond.soleField "GardenChess$Reader" "to") ∈ lw_all := lw_g (lw_at lw_m1 235 rfl) rfl
theorem q397 : (Jvm.Cond.laysFinal "GardenChess$Reader" "GardenChess$Reader" "this$0" "LGardenChess;") ∈ lw_all := lw_g (lw_at lw_m1 236 rfl) rfl
theorem q398 : (Jvm.Cond.soleField "GardenChess$Reader" "this$0") ∈ lw_all := lw_g (lw_at lw_m1 237 rfl) rfl
theorem q399 : (Jvm.Cond.superclass "GardenChess$Reader" "java/lang/Object") ∈ lw_all := lw_g (lw_at lw_m1 238 rfl) rfl
theorem q540 : (Jvm.Cond.fieldLinkNest "GardenChess$Reader" (32 : Nat) "GardenChess" "tape" "[B" "GardenChess") ∈ lw_tbl := lw_at lw_m2 139 rfl
theorem q645 : (Jvm.Cond.instanceMethod ({ cls := "GardenChess$Reader", name := "all", desc := "(I)LGardenChess$Board;" } : Jvm.MethodName)) ∈ lw_all := lw_g (lw_at lw_m3 4 rfl) rfl
theorem q646 : (Jvm.Cond.selects "GardenChess$Reader" ({ cls := "GardenChess$Reader", name := "all", desc := "(I)LGardenChess$Board;" } : Jvm.MethodName) ({ cls := "GardenChess$Reader", name := "all", desc := "(I)LGardenChess$Board;" } : Jvm.MethodName)) ∈ lw_all := lw_g (lw_at lw_m3 5 rfl) rfl
theorem q647 : (Jvm.Cond.code ({ cls := "GardenChess$Reader", name := "all", desc := "(I)LGardenChess$Board;" } : Jvm.MethodName) prog_19_method_16_code (3 : Nat) (Option.some (Jvm.ClassFile.FieldType.object "GardenChess$Board"))) ∈ lw_all := lw_g (lw_at lw_m3 6 rfl) rfl
theorem q648 : (Jvm.Cond.classLink "GardenChess$Reader" (108 : Nat) "GardenChess$Board") ∈ lw_all := lw_g (lw_at lw_m3 7 rfl) rfl
theorem q649 : (Jvm.Cond.methodLinkNest "GardenChess$Reader" (118 : Nat) ({ cls := "GardenChess$Board", name := "<init>", desc := "()V" } : Jvm.MethodName) "GardenChess") ∈ lw_tbl := lw_at lw_m3 8 rfl
theorem q650 : (Jvm.Cond.stringRef "GardenChess$Reader" (122 : Nat) "board") ∈ lw_tbl := lw_at lw_m3 9 rfl
theorem q651 : (Jvm.Cond.methodLink "GardenChess$Reader" (93 : Nat) ({ cls := "GardenChess$Reader", name := "word", desc := "(Ljava/lang/String;)V" } : Jvm.MethodName)) ∈ lw_all := lw_g (lw_at lw_m3 10 rfl) rfl
theorem q652 : (Jvm.Cond.privateMethod ({ cls := "GardenChess$Reader", name := "word", desc := "(Ljava/lang/String;)V" } : Jvm.MethodName)) ∈ lw_tbl := lw_at lw_m3 11 rfl
theorem q653 : (Jvm.Cond.instanceMethod ({ cls := "GardenChess$Reader", name := "word", desc := "(Ljava/lang/String;)V" } : Jvm.MethodName)) ∈ lw_all := lw_g (lw_at lw_m3 12 rfl) rfl
theorem q654 : (Jvm.Cond.code ({ cls := "GardenChess$Reader", name := "word", desc := "(Ljava/lang/String;)V" } : Jvm.MethodName) prog_19_method_8_code (2 : Nat) (Option.none : Option Jvm.ClassFile.FieldType)) ∈ lw_all := lw_g (lw_at lw_m3 13 rfl) rfl
theorem q655 : (Jvm.Cond.methodLink "GardenChess$Reader" (70 : Nat) ({ cls := "GardenChess$Reader", name := "word", desc := "()Ljava/lang/String;" } : Jvm.MethodName)) ∈ lw_all := lw_g (lw_at lw_m3 14 rfl) rfl
theorem q656 : (Jvm.Cond.privateMethod ({ cls := "GardenChess$Reader", name := "word", desc := "()Ljava/lang/String;" } : Jvm.MethodName)) ∈ lw_tbl := lw_at lw_m3 15 rfl
theorem q657 : (Jvm.Cond.instanceMethod ({ cls := "GardenChess$Reader", name := "word", desc := "()Ljava/lang/String;" } : Jvm.MethodName)) ∈ lw_all := lw_g (lw_at lw_m3 16 rfl) rfl
theorem q658 : (Jvm.Cond.code ({ cls := "GardenChess$Reader", name := "word", desc := "()Ljava/lang/String;" } : Jvm.MethodName) prog_19_method_7_code (3 : Nat) (Option.some (Jvm.ClassFile.FieldType.object "java/lang/String"))) ∈ lw_all := lw_g (lw_at lw_m3 17 rfl) rfl
theorem q659 : (Jvm.Cond.methodLink "GardenChess$Reader" (43 : Nat) ({ cls := "GardenChess$Reader", name := "here", desc := "()I" } : Jvm.MethodName)) ∈ lw_all := lw_g (lw_at lw_m3 18 rfl) rfl
theorem q660 : (Jvm.Cond.privateMethod ({ cls := "GardenChess$Reader", name := "here", desc := "()I" } : Jvm.MethodName)) ∈ lw_tbl := lw_at lw_m3 19 rfl
theorem q661 : (Jvm.Cond.instanceMethod ({ cls := "GardenChess$Reader", name := "here", desc := "()I" } : Jvm.MethodName)) ∈ lw_all := lw_g (lw_at lw_m3 20 rfl) rfl
theorem q662 : (Jvm.Cond.code ({ cls := "GardenChess$Reader", name := "here", desc := "()I" } : Jvm.MethodName) prog_19_method_4_code (1 : Nat) (Option.some Jvm.ClassFile.FieldType.int)) ∈ lw_all := lw_g (lw_at lw_m3 21 rfl) rfl
theorem q663 : (Jvm.Cond.methodLink "GardenChess$Reader" (39 : Nat) ({ cls := "GardenChess$Reader", name := "byteAt", desc := "(I)I" } : Jvm.MethodName)) ∈ lw_all := lw_g (lw_at lw_m3 22 rfl) rfl
theorem q664 : (Jvm.Cond.privateMethod ({ cls := "GardenChess$Reader", name := "byteAt", desc := "(I)I" } : Jvm.MethodName)) ∈ lw_tbl := lw_at lw_m3 23 rfl
theorem q665 : (Jvm.Cond.instanceMethod ({ cls := "GardenChess$Reader", name := "byteAt", desc := "(I)I" } : Jvm.MethodName)) ∈ lw_all := lw_g (lw_at lw_m3 24 rfl) rfl
theorem q666 : (Jvm.Cond.code ({ cls := "GardenChess$Reader", name := "byteAt", desc := "(I)I" } : Jvm.MethodName) prog_19_method_3_code (2 : Nat) (Option.some Jvm.ClassFile.FieldType.int)) ∈ lw_all := lw_g (lw_at lw_m3 25 rfl) rfl
theorem q667 : (Jvm.Cond.methodLinkNest "GardenChess$Reader" (51 : Nat) ({ cls := "GardenChess", name := "isLetter", desc := "(I)Z" } : Jvm.MethodName) "GardenChess") ∈ lw_tbl := lw_at lw_m3 26 rfl
theorem q670 : (Jvm.Cond.methodLink "GardenChess$Reader" (47 : Nat) ({ cls := "GardenChess$Reader", name := "wrong", desc := "(II)LGardenChess$Fault;" } : Jvm.MethodName)) ∈ lw_all := lw_g (lw_at lw_m3 29 rfl) rfl
theorem q671 : (Jvm.Cond.privateMethod ({ cls := "GardenChess$Reader", name := "wrong", desc := "(II)LGardenChess$Fault;" } : Jvm.MethodName)) ∈ lw_tbl := lw_at lw_m3 30 rfl
theorem q672 : (Jvm.Cond.instanceMethod ({ cls := "GardenChess$Reader", name := "wrong", desc := "(II)LGardenChess$Fault;" } : Jvm.MethodName)) ∈ lw_all := lw_g (lw_at lw_m3 31 rfl) rfl
theorem q673 : (Jvm.Cond.code ({ cls := "GardenChess$Reader", name := "wrong", desc := "(II)LGardenChess$Fault;" } : Jvm.MethodName) prog_19_method_2_code (3 : Nat) (Option.some (Jvm.ClassFile.FieldType.object "GardenChess$Fault"))) ∈ lw_all := lw_g (lw_at lw_m3 32 rfl) rfl
theorem q674 : (Jvm.Cond.methodLink "GardenChess$Reader" (58 : Nat) ({ cls := "GardenChess$Reader", name := "parted", desc := "()V" } : Jvm.MethodName)) ∈ lw_all := lw_g (lw_at lw_m3 33 rfl) rfl
theorem q675 : (Jvm.Cond.privateMethod ({ cls := "GardenChess$Reader", name := "parted", desc := "()V" } : Jvm.MethodName)) ∈ lw_tbl := lw_at lw_m3 34 rfl
theorem q676 : (Jvm.Cond.instanceMethod ({ cls := "GardenChess$Reader", name := "parted", desc := "()V" } : Jvm.MethodName)) ∈ lw_all := lw_g (lw_at lw_m3 35 rfl) rfl
theorem q677 : (Jvm.Cond.code ({ cls := "GardenChess$Reader", name := "parted", desc := "()V" } : Jvm.MethodName) prog_19_method_6_code (1 : Nat) (Option.none : Option Jvm.ClassFile.FieldType)) ∈ lw_all := lw_g (lw_at lw_m3 36 rfl) rfl
theorem q678 : (Jvm.Cond.methodLinkNest "GardenChess$Reader" (55 : Nat) ({ cls := "GardenChess", name := "isDigit", desc := "(I)Z" } : Jvm.MethodName) "GardenChess") ∈ lw_tbl := lw_at lw_m3 37 rfl
theorem q681 : (Jvm.Cond.methodLink "GardenChess$Reader" (64 : Nat) ({ cls := "java/lang/String", name := "valueOf", desc := "([C)Ljava/lang/String;" } : Jvm.MethodName)) ∈ lw_all := lw_g (lw_at lw_m3 40 rfl) rfl
theorem q759 : (Jvm.Cond.methodLink "GardenChess$Reader" (74 : Nat) ({ cls := "java/lang/String", name := "equals", desc := "(Ljava/lang/Object;)Z" } : Jvm.MethodName)) ∈ lw_all := lw_g (lw_at lw_m3 118 rfl) rfl
theorem q766 : (Jvm.Cond.methodLink "GardenChess$Reader" (96 : Nat) ({ cls := "GardenChess$Reader", name := "number", desc := "(II)I" } : Jvm.MethodName)) ∈ lw_all := lw_g (lw_at lw_m3 125 rfl) rfl
theorem q767 : (Jvm.Cond.privateMethod ({ cls := "GardenChess$Reader", name := "number", desc := "(II)I" } : Jvm.MethodName)) ∈ lw_tbl := lw_at lw_m3 126 rfl
theorem q768 : (Jvm.Cond.instanceMethod ({ cls := "GardenChess$Reader", name := "number", desc := "(II)I" } : Jvm.MethodName)) ∈ lw_all := lw_g (lw_at lw_m3 127 rfl) rfl
theorem q769 : (Jvm.Cond.code ({ cls := "GardenChess$Reader", name := "number", desc := "(II)I" } : Jvm.MethodName) prog_19_method_11_code (4 : Nat) (Option.some Jvm.ClassFile.FieldType.int)) ∈ lw_all := lw_g (lw_at lw_m3 128 rfl) rfl
theorem q770 : (Jvm.Cond.methodLinkNest "GardenChess$Reader" (89 : Nat) ({ cls := "GardenChess", name := "is", desc := "(III)Z" } : Jvm.MethodName) "GardenChess") ∈ lw_tbl := lw_at lw_m3 129 rfl
theorem q773 : (Jvm.Cond.stringRef "GardenChess$Reader" (127 : Nat) "by") ∈ lw_tbl := lw_at lw_m3 132 rfl
theorem q774 : (Jvm.Cond.methodLink "GardenChess$Reader" (129 : Nat) ({ cls := "GardenChess$Reader", name := "number", desc := "(Ljava/lang/String;II)I" } : Jvm.MethodName)) ∈ lw_all := lw_g (lw_at lw_m3 133 rfl) rfl
theorem q775 : (Jvm.Cond.privateMethod ({ cls := "GardenChess$Reader", name := "number", desc := "(Ljava/lang/String;II)I" } : Jvm.MethodName)) ∈ lw_tbl := lw_at lw_m3 134 rfl
theorem q776 : (Jvm.Cond.instanceMethod ({ cls := "GardenChess$Reader", name := "number", desc := "(Ljava/lang/String;II)I" } : Jvm.MethodName)) ∈ lw_all := lw_g (lw_at lw_m3 135 rfl) rfl
theorem q777 : (Jvm.Cond.code ({ cls := "GardenChess$Reader", name := "number", desc := "(Ljava/lang/String;II)I" } : Jvm.MethodName) prog_19_method_12_code (4 : Nat) (Option.some Jvm.ClassFile.FieldType.int)) ∈ lw_all := lw_g (lw_at lw_m3 136 rfl) rfl
theorem q778 : (Jvm.Cond.stringRef "GardenChess$Reader" (139 : Nat) "white") ∈ lw_tbl := lw_at lw_m3 137 rfl
theorem q779 : (Jvm.Cond.stringRef "GardenChess$Reader" (141 : Nat) "black") ∈ lw_tbl := lw_at lw_m3 138 rfl
theorem q780 : (Jvm.Cond.methodLink "GardenChess$Reader" (143 : Nat) ({ cls := "GardenChess$Reader", name := "must", desc := "(I)V" } : Jvm.MethodName)) ∈ lw_all := lw_g (lw_at lw_m3 139 rfl) rfl
theorem q781 : (Jvm.Cond.privateMethod ({ cls := "GardenChess$Reader", name := "must", desc := "(I)V" } : Jvm.MethodName)) ∈ lw_tbl := lw_at lw_m3 140 rfl
theorem q782 : (Jvm.Cond.instanceMethod ({ cls := "GardenChess$Reader", name := "must", desc := "(I)V" } : Jvm.MethodName)) ∈ lw_all := lw_g (lw_at lw_m3 141 rfl) rfl
theorem q783 : (Jvm.Cond.code ({ cls := "GardenChess$Reader", name := "must", desc := "(I)V" } : Jvm.MethodName) prog_19_method_5_code (2 : Nat) (Option.none : Option Jvm.ClassFile.FieldType)) ∈ lw_all := lw_g (lw_at lw_m3 142 rfl) rfl
theorem q784 : (Jvm.Cond.methodLink "GardenChess$Reader" (150 : Nat) ({ cls := "GardenChess$Reader", name := "most", desc := "(ZI)V" } : Jvm.MethodName)) ∈ lw_all := lw_g (lw_at lw_m3 143 rfl) rfl
theorem q785 : (Jvm.Cond.privateMethod ({ cls := "GardenChess$Reader", name := "most", desc := "(ZI)V" } : Jvm.MethodName)) ∈ lw_tbl := lw_at lw_m3 144 rfl
theorem q786 : (Jvm.Cond.instanceMethod ({ cls := "GardenChess$Reader", name := "most", desc := "(ZI)V" } : Jvm.MethodName)) ∈ lw_all := lw_g (lw_at lw_m3 145 rfl) rfl
theorem q787 : (Jvm.Cond.code ({ cls := "GardenChess$Reader", name := "most", desc := "(ZI)V" } : Jvm.MethodName) prog_19_method_15_code (3 : Nat) (Option.none : Option Jvm.ClassFile.FieldType)) ∈ lw_all := lw_g (lw_at lw_m3 146 rfl) rfl
theorem q788 : (Jvm.Cond.methodLink "GardenChess$Reader" (154 : Nat) ({ cls := "GardenChess$Reader", name := "told", desc := "(Ljava/lang/String;I)V" } : Jvm.MethodName)) ∈ lw_all := lw_g (lw_at lw_m3 147 rfl) rfl
theorem q789 : (Jvm.Cond.privateMethod ({ cls := "GardenChess$Reader", name := "told", desc := "(Ljava/lang/String;I)V" } : Jvm.MethodName)) ∈ lw_tbl := lw_at lw_m3 148 rfl
theorem q790 : (Jvm.Cond.instanceMethod ({ cls := "GardenChess$Reader", name := "told", desc := "(Ljava/lang/String;I)V" } : Jvm.MethodName)) ∈ lw_all := lw_g (lw_at lw_m3 149 rfl) rfl
theorem q791 : (Jvm.Cond.code ({ cls := "GardenChess$Reader", name := "told", desc := "(Ljava/lang/String;I)V" } : Jvm.MethodName) prog_19_method_17_code (12 : Nat) (Option.none : Option Jvm.ClassFile.FieldType)) ∈ lw_all := lw_g (lw_at lw_m3 150 rfl) rfl
theorem q792 : (Jvm.Cond.methodLink "GardenChess$Reader" (158 : Nat) ({ cls := "java/lang/String", name := "hashCode", desc := "()I" } : Jvm.MethodName)) ∈ lw_all := lw_g (lw_at lw_m3 151 rfl) rfl
theorem q845 : (Jvm.Cond.stringRef "GardenChess$Reader" (161 : Nat) "kind") ∈ lw_tbl := lw_at lw_m3 204 rfl
theorem q846 : (Jvm.Cond.stringRef "GardenChess$Reader" (162 : Nat) "man") ∈ lw_tbl := lw_at lw_m3 205 rfl
theorem q847 : (Jvm.Cond.stringRef "GardenChess$Reader" (164 : Nat) "field") ∈ lw_tbl := lw_at lw_m3 206 rfl
theorem q848 : (Jvm.Cond.stringRef "GardenChess$Reader" (166 : Nat) "harm") ∈ lw_tbl := lw_at lw_m3 207 rfl
theorem q849 : (Jvm.Cond.stringRef "GardenChess$Reader" (168 : Nat) "grows") ∈ lw_tbl := lw_at lw_m3 208 rfl
theorem q850 : (Jvm.Cond.stringRef "GardenChess$Reader" (170 : Nat) "sleepy") ∈ lw_tbl := lw_at lw_m3 209 rfl
theorem q851 : (Jvm.Cond.interfaceEntry "GardenChess$Reader" (176 : Nat)) ∈ lw_tbl := lw_at lw_m3 210 rfl
theorem q852 : (Jvm.Cond.methodLink "GardenChess$Reader" (176 : Nat) ({ cls := "java/util/List", name := "size", desc := "()I" } : Jvm.MethodName)) ∈ lw_all := lw_g (lw_at lw_m3 211 rfl) rfl
theorem q853 : (Jvm.Cond.methodLink "GardenChess$Reader" (180 : Nat) ({ cls := "GardenChess$Reader", name := "fresh", desc := "()Ljava/lang/String;" } : Jvm.MethodName)) ∈ lw_all := lw_g (lw_at lw_m3 212 rfl) rfl
theorem q854 : (Jvm.Cond.privateMethod ({ cls := "GardenChess$Reader", name := "fresh", desc := "()Ljava/lang/String;" } : Jvm.MethodName)) ∈ lw_tbl := lw_at lw_m3 213 rfl
theorem q855 : (Jvm.Cond.instanceMethod ({ cls := "GardenChess$Reader", name := "fresh", desc := "()Ljava/lang/String;" } : Jvm.MethodName)) ∈ lw_all := lw_g (lw_at lw_m3 214 rfl) rfl
theorem q856 : (Jvm.Cond.code ({ cls := "GardenChess$Reader", name := "fresh", desc := "()Ljava/lang/String;" } : Jvm.MethodName) prog_19_method_13_code (2 : Nat) (Option.some (Jvm.ClassFile.FieldType.object "java/lang/String"))) ∈ lw_all := lw_g (lw_at lw_m3 215 rfl) rfl
theorem q857 : (Jvm.Cond.methodLink "GardenChess$Reader" (100 : Nat) ({ cls := "GardenChess$Reader", name := "name", desc := "()Ljava/lang/String;" } : Jvm.MethodName)) ∈ lw_all := lw_g (lw_at lw_m3 216 rfl) rfl
theorem q858 : (Jvm.Cond.privateMethod ({ cls := "GardenChess$Reader", name := "name", desc := "()Ljava/lang/String;" } : Jvm.MethodName)) ∈ lw_tbl := lw_at lw_m3 217 rfl
theorem q859 : (Jvm.Cond.instanceMethod ({ cls := "GardenChess$Reader", name := "name", desc := "()Ljava/lang/String;" } : Jvm.MethodName)) ∈ lw_all := lw_g (lw_at lw_m3 218 rfl) rfl
theorem q860 : (Jvm.Cond.code ({ cls := "GardenChess$Reader", name := "name", desc := "()Ljava/lang/String;" } : Jvm.MethodName) prog_19_method_10_code (2 : Nat) (Option.some (Jvm.ClassFile.FieldType.object "java/lang/String"))) ∈ lw_all := lw_g (lw_at lw_m3 219 rfl) rfl
theorem q861 : (Jvm.Cond.fieldLinkNest "GardenChess$Reader" (78 : Nat) "GardenChess" "OWN" "[Ljava/lang/String;" "GardenChess") ∈ lw_tbl := lw_at lw_m3 220 rfl
theorem q863 : (Jvm.Cond.methodLinkNest "GardenChess$Reader" (82 : Nat) ({ cls := "GardenChess", name := "find", desc := "(Ljava/lang/String;[Ljava/lang/String;)I" } : Jvm.MethodName) "GardenChess") ∈ lw_tbl := lw_at lw_m3 222 rfl
theorem q867 : (Jvm.Cond.methodLink "GardenChess$Reader" (86 : Nat) ({ cls := "java/lang/String", name := "length", desc := "()I" } : Jvm.MethodName)) ∈ lw_all := lw_g (lw_at lw_m3 226 rfl) rfl
theorem q875 : (Jvm.Cond.methodLink "GardenChess$Reader" (107 : Nat) ({ cls := "GardenChess$Board", name := "isNamed", desc := "(Ljava/lang/String;)Z" } : Jvm.MethodName)) ∈ lw_all := lw_g (lw_at lw_m3 234 rfl) rfl
theorem q888 : (Jvm.Cond.stringRef "GardenChess$Reader" (183 : Nat) "ways") ∈ lw_tbl := lw_at lw_m4 7 rfl
theorem q889 : (Jvm.Cond.stringRef "GardenChess$Reader" (185 : Nat) "reach") ∈ lw_tbl := lw_at lw_m4 8 rfl
theorem q890 : (Jvm.Cond.classLink "GardenChess$Reader" (187 : Nat) "GardenChess$Kind") ∈ lw_all := lw_g (lw_at lw_m4 9 rfl) rfl
theorem q892 : (Jvm.Cond.stringRef "GardenChess$Reader" (189 : Nat) "worth") ∈ lw_tbl := lw_at lw_m4 11 rfl
theorem q893 : (Jvm.Cond.methodLink "GardenChess$Reader" (191 : Nat) ({ cls := "GardenChess$Kind", name := "<init>", desc := "(Ljava/lang/String;III)V" } : Jvm.MethodName)) ∈ lw_all := lw_g (lw_at lw_m4 12 rfl) rfl
theorem q910 : (Jvm.Cond.fieldLinkNest "GardenChess$Reader" (199 : Nat) "GardenChess$Kind" "isCrown" "Z" "GardenChess") ∈ lw_tbl := lw_at lw_m4 29 rfl
theorem q924 : (Jvm.Cond.stringRef "GardenChess$Reader" (194 : Nat) "crown") ∈ lw_tbl := lw_at lw_m4 43 rfl
theorem q925 : (Jvm.Cond.methodLink "GardenChess$Reader" (196 : Nat) ({ cls := "GardenChess$Reader", name := "passes", desc := "(Ljava/lang/String;)Z" } : Jvm.MethodName)) ∈ lw_all := lw_g (lw_at lw_m4 44 rfl) rfl
theorem q926 : (Jvm.Cond.privateMethod ({ cls := "GardenChess$Reader", name := "passes", desc := "(Ljava/lang/String;)Z" } : Jvm.MethodName)) ∈ lw_tbl := lw_at lw_m4 45 rfl
theorem q927 : (Jvm.Cond.instanceMethod ({ cls := "GardenChess$Reader", name := "passes", desc := "(Ljava/lang/String;)Z" } : Jvm.MethodName)) ∈ lw_all := lw_g (lw_at lw_m4 46 rfl) rfl
theorem q928 : (Jvm.Cond.code ({ cls := "GardenChess$Reader", name := "passes", desc := "(Ljava/lang/String;)Z" } : Jvm.MethodName) prog_19_method_9_code (3 : Nat) (Option.some Jvm.ClassFile.FieldType.boolean)) ∈ lw_all := lw_g (lw_at lw_m4 47 rfl) rfl
theorem q929 : (Jvm.Cond.interfaceEntry "GardenChess$Reader" (203 : Nat)) ∈ lw_tbl := lw_at lw_m4 48 rfl
theorem q930 : (Jvm.Cond.methodLink "GardenChess$Reader" (203 : Nat) ({ cls := "java/util/List", name := "add", desc := "(Ljava/lang/Object;)Z" } : Jvm.MethodName)) ∈ lw_all := lw_g (lw_at lw_m4 49 rfl) rfl
theorem q985 : (Jvm.Cond.selects "GardenChess$Reader" ({ cls := "java/lang/Object", name := "getClass", desc := "()Ljava/lang/Class;" } : Jvm.MethodName) ({ cls := "java/lang/Object", name := "getClass", desc := "()Ljava/lang/Class;" } : Jvm.MethodName)) ∈ lw_all := lw_g (lw_at lw_m4 104 rfl) rfl
theorem q1006 : (Jvm.Cond.methodLink "GardenChess$Reader" (209 : Nat) ({ cls := "GardenChess$Reader", name := "man", desc := "()V" } : Jvm.MethodName)) ∈ lw_all := lw_g (lw_at lw_m4 125 rfl) rfl
theorem q1007 : (Jvm.Cond.privateMethod ({ cls := "GardenChess$Reader", name := "man", desc := "()V" } : Jvm.MethodName)) ∈ lw_tbl := lw_at lw_m4 126 rfl
theorem q1008 : (Jvm.Cond.instanceMethod ({ cls := "GardenChess$Reader", name := "man", desc := "()V" } : Jvm.MethodName)) ∈ lw_all := lw_g (lw_at lw_m4 127 rfl) rfl
theorem q1009 : (Jvm.Cond.code ({ cls := "GardenChess$Reader", name := "man", desc := "()V" } : Jvm.MethodName) prog_19_method_18_code (6 : Nat) (Option.none : Option Jvm.ClassFile.FieldType)) ∈ lw_all := lw_g (lw_at lw_m4 128 rfl) rfl
theorem q1010 : (Jvm.Cond.stringRef "GardenChess$Reader" (234 : Nat) "is") ∈ lw_tbl := lw_at lw_m4 129 rfl
theorem q1011 : (Jvm.Cond.methodLink "GardenChess$Reader" (235 : Nat) ({ cls := "GardenChess$Reader", name := "known", desc := "(Ljava/util/List;)I" } : Jvm.MethodName)) ∈ lw_all := lw_g (lw_at lw_m4 130 rfl) rfl
theorem q1012 : (Jvm.Cond.privateMethod ({ cls := "GardenChess$Reader", name := "known", desc := "(Ljava/util/List;)I" } : Jvm.MethodName)) ∈ lw_tbl := lw_at lw_m4 131 rfl
theorem q1013 : (Jvm.Cond.instanceMethod ({ cls := "GardenChess$Reader", name := "known", desc := "(Ljava/util/List;)I" } : Jvm.MethodName)) ∈ lw_all := lw_g (lw_at lw_m4 132 rfl) rfl
theorem q1014 : (Jvm.Cond.code ({ cls := "GardenChess$Reader", name := "known", desc := "(Ljava/util/List;)I" } : Jvm.MethodName) prog_19_method_14_code (3 : Nat) (Option.some Jvm.ClassFile.FieldType.int)) ∈ lw_all := lw_g (lw_at lw_m4 133 rfl) rfl
theorem q1015 : (Jvm.Cond.methodLink "GardenChess$Reader" (113 : Nat) ({ cls := "GardenChess$Named", name := "find", desc := "(Ljava/util/List;Ljava/lang/String;)I" } : Jvm.MethodName)) ∈ lw_all := lw_g (lw_at lw_m4 134 rfl) rfl
theorem q1016 : (Jvm.Cond.stringRef "GardenChess$Reader" (239 : Nat) "of") ∈ lw_tbl := lw_at lw_m4 135 rfl
theorem q1017 : (Jvm.Cond.stringRef "GardenChess$Reader" (214 : Nat) "at") ∈ lw_tbl := lw_at lw_m4 136 rfl
theorem q1018 : (Jvm.Cond.methodLink "GardenChess$Reader" (241 : Nat) ({ cls := "GardenChess$Board", name := "isFull", desc := "(II)Z" } : Jvm.MethodName)) ∈ lw_all := lw_g (lw_at lw_m4 137 rfl) rfl
theorem q1027 : (Jvm.Cond.classLink "GardenChess$Reader" (245 : Nat) "GardenChess$Man") ∈ lw_all := lw_g (lw_at lw_m4 146 rfl) rfl
theorem q1029 : (Jvm.Cond.methodLink "GardenChess$Reader" (247 : Nat) ({ cls := "GardenChess$Man", name := "<init>", desc := "(Ljava/lang/String;IIII)V" } : Jvm.MethodName)) ∈ lw_all := lw_g (lw_at lw_m4 148 rfl) rfl
theorem q1054 : (Jvm.Cond.classLink "GardenChess$Reader" (215 : Nat) "GardenChess$Field") ∈ lw_all := lw_g (lw_at lw_m4 173 rfl) rfl
theorem q1056 : (Jvm.Cond.stringRef "GardenChess$Reader" (217 : Nat) "bears") ∈ lw_tbl := lw_at lw_m4 175 rfl
theorem q1057 : (Jvm.Cond.methodLink "GardenChess$Reader" (219 : Nat) ({ cls := "GardenChess$Field", name := "<init>", desc := "(Ljava/lang/String;III)V" } : Jvm.MethodName)) ∈ lw_all := lw_g (lw_at lw_m4 176 rfl) rfl
theorem q1077 : (Jvm.Cond.methodLink "GardenChess$Reader" (226 : Nat) ({ cls := "GardenChess$Reader", name := "sum", desc := "()LGardenChess$Value;" } : Jvm.MethodName)) ∈ lw_all := lw_g (lw_at lw_m4 196 rfl) rfl
theorem q1078 : (Jvm.Cond.privateMethod ({ cls := "GardenChess$Reader", name := "sum", desc := "()LGardenChess$Value;" } : Jvm.MethodName)) ∈ lw_tbl := lw_at lw_m4 197 rfl
theorem q1079 : (Jvm.Cond.instanceMethod ({ cls := "GardenChess$Reader", name := "sum", desc := "()LGardenChess$Value;" } : Jvm.MethodName)) ∈ lw_all := lw_g (lw_at lw_m4 198 rfl) rfl
theorem q1080 : (Jvm.Cond.code ({ cls := "GardenChess$Reader", name := "sum", desc := "()LGardenChess$Value;" } : Jvm.MethodName) prog_19_method_20_code (3 : Nat) (Option.some (Jvm.ClassFile.FieldType.object "GardenChess$Value"))) ∈ lw_all := lw_g (lw_at lw_m4 199 rfl) rfl
theorem q1081 : (Jvm.Cond.classLink "GardenChess$Reader" (250 : Nat) "GardenChess$Chain") ∈ lw_all := lw_g (lw_at lw_m4 200 rfl) rfl
theorem q1083 : (Jvm.Cond.methodLinkNest "GardenChess$Reader" (252 : Nat) ({ cls := "GardenChess$Chain", name := "<init>", desc := "()V" } : Jvm.MethodName) "GardenChess") ∈ lw_tbl := lw_at lw_m4 202 rfl
theorem q1122 : (Jvm.Cond.methodLink "GardenChess$Reader" (253 : Nat) ({ cls := "GardenChess$Reader", name := "product", desc := "()LGardenChess$Value;" } : Jvm.MethodName)) ∈ lw_all := lw_g (lw_at lw_m5 1 rfl) rfl
theorem q1123 : (Jvm.Cond.privateMethod ({ cls := "GardenChess$Reader", name := "product", desc := "()LGardenChess$Value;" } : Jvm.MethodName)) ∈ lw_tbl := lw_at lw_m5 2 rfl
theorem q1124 : (Jvm.Cond.instanceMethod ({ cls := "GardenChess$Reader", name := "product", desc := "()LGardenChess$Value;" } : Jvm.MethodName)) ∈ lw_all := lw_g (lw_at lw_m5 3 rfl) rfl
theorem q1125 : (Jvm.Cond.code ({ cls := "GardenChess$Reader", name := "product", desc := "()LGardenChess$Value;" } : Jvm.MethodName) prog_19_method_21_code (3 : Nat) (Option.some (Jvm.ClassFile.FieldType.object "GardenChess$Value"))) ∈ lw_all := lw_g (lw_at lw_m5 4 rfl) rfl
theorem q1126 : (Jvm.Cond.methodLink "GardenChess$Reader" (262 : Nat) ({ cls := "GardenChess$Reader", name := "atom", desc := "()LGardenChess$Value;" } : Jvm.MethodName)) ∈ lw_all := lw_g (lw_at lw_m5 5 rfl) rfl
theorem q1127 : (Jvm.Cond.privateMethod ({ cls := "GardenChess$Reader", name := "atom", desc := "()LGardenChess$Value;" } : Jvm.MethodName)) ∈ lw_tbl := lw_at lw_m5 6 rfl
theorem q1128 : (Jvm.Cond.instanceMethod ({ cls := "GardenChess$Reader", name := "atom", desc := "()LGardenChess$Value;" } : Jvm.MethodName)) ∈ lw_all := lw_g (lw_at lw_m5 7 rfl) rfl
theorem q1129 : (Jvm.Cond.code ({ cls := "GardenChess$Reader", name := "atom", desc := "()LGardenChess$Value;" } : Jvm.MethodName) prog_19_method_24_code (3 : Nat) (Option.some (Jvm.ClassFile.FieldType.object "GardenChess$Value"))) ∈ lw_all := lw_g (lw_at lw_m5 8 rfl) rfl
theorem q1130 : (Jvm.Cond.methodLink "GardenChess$Reader" (273 : Nat) ({ cls := "GardenChess$Reader", name := "within", desc := "(I)LGardenChess$Value;" } : Jvm.MethodName)) ∈ lw_all := lw_g (lw_at lw_m5 9 rfl) rfl
theorem q1131 : (Jvm.Cond.privateMethod ({ cls := "GardenChess$Reader", name := "within", desc := "(I)LGardenChess$Value;" } : Jvm.MethodName)) ∈ lw_tbl := lw_at lw_m5 10 rfl
theorem q1132 : (Jvm.Cond.instanceMethod ({ cls := "GardenChess$Reader", name := "within", desc := "(I)LGardenChess$Value;" } : Jvm.MethodName)) ∈ lw_all := lw_g (lw_at lw_m5 11 rfl) rfl
theorem q1133 : (Jvm.Cond.code ({ cls := "GardenChess$Reader", name := "within", desc := "(I)LGardenChess$Value;" } : Jvm.MethodName) prog_19_method_23_code (4 : Nat) (Option.some (Jvm.ClassFile.FieldType.object "GardenChess$Value"))) ∈ lw_all := lw_g (lw_at lw_m5 12 rfl) rfl
theorem q1134 : (Jvm.Cond.methodLink "GardenChess$Reader" (265 : Nat) ({ cls := "GardenChess$Reader", name := "opens", desc := "(I)V" } : Jvm.MethodName)) ∈ lw_all := lw_g (lw_at lw_m5 13 rfl) rfl
theorem q1135 : (Jvm.Cond.privateMethod ({ cls := "GardenChess$Reader", name := "opens", desc := "(I)V" } : Jvm.MethodName)) ∈ lw_tbl := lw_at lw_m5 14 rfl
theorem q1136 : (Jvm.Cond.instanceMethod ({ cls := "GardenChess$Reader", name := "opens", desc := "(I)V" } : Jvm.MethodName)) ∈ lw_all := lw_g (lw_at lw_m5 15 rfl) rfl
theorem q1137 : (Jvm.Cond.code ({ cls := "GardenChess$Reader", name := "opens", desc := "(I)V" } : Jvm.MethodName) prog_19_method_22_code (2 : Nat) (Option.none : Option Jvm.ClassFile.FieldType)) ∈ lw_all := lw_g (lw_at lw_m5 16 rfl) rfl
theorem q1138 : (Jvm.Cond.classLink "GardenChess$Reader" (268 : Nat) "GardenChess$Pair") ∈ lw_all := lw_g (lw_at lw_m5 17 rfl) rfl
theorem q1140 : (Jvm.Cond.methodLink "GardenChess$Reader" (270 : Nat) ({ cls := "GardenChess$Pair", name := "<init>", desc := "(ZLGardenChess$Value;LGardenChess$Value;)V" } : Jvm.MethodName)) ∈ lw_all := lw_g (lw_at lw_m5 19 rfl) rfl
theorem q1154 : (Jvm.Cond.classLink "GardenChess$Reader" (277 : Nat) "GardenChess$Fixed") ∈ lw_all := lw_g (lw_at lw_m5 33 rfl) rfl
theorem q1156 : (Jvm.Cond.methodLink "GardenChess$Reader" (279 : Nat) ({ cls := "GardenChess$Fixed", name := "<init>", desc := "(J)V" } : Jvm.MethodName)) ∈ lw_all := lw_g (lw_at lw_m5 35 rfl) rfl
theorem q1164 : (Jvm.Cond.fieldLinkNest "GardenChess$Reader" (282 : Nat) "GardenChess" "ASKED" "[Ljava/lang/String;" "GardenChess") ∈ lw_tbl := lw_at lw_m5 43 rfl
theorem q1166 : (Jvm.Cond.methodLinkNest "GardenChess$Reader" (285 : Nat) ({ cls := "GardenChess", name := "has", desc := "(II)Z" } : Jvm.MethodName) "GardenChess") ∈ lw_tbl := lw_at lw_m5 45 rfl
theorem q1169 : (Jvm.Cond.classLink "GardenChess$Reader" (288 : Nat) "GardenChess$Asked") ∈ lw_all := lw_g (lw_at lw_m5 48 rfl) rfl
theorem q1171 : (Jvm.Cond.methodLink "GardenChess$Reader" (290 : Nat) ({ cls := "GardenChess$Asked", name := "<init>", desc := "(I)V" } : Jvm.MethodName)) ∈ lw_all := lw_g (lw_at lw_m5 50 rfl) rfl
theorem q1179 : (Jvm.Cond.fieldLinkNest "GardenChess$Reader" (292 : Nat) "GardenChess" "LOOKED" "[Ljava/lang/String;" "GardenChess") ∈ lw_tbl := lw_at lw_m5 58 rfl
theorem q1181 : (Jvm.Cond.methodLink "GardenChess$Reader" (295 : Nat) ({ cls := "GardenChess$Reader", name := "looked", desc := "(I)LGardenChess$Value;" } : Jvm.MethodName)) ∈ lw_all := lw_g (lw_at lw_m5 60 rfl) rfl
theorem q1182 : (Jvm.Cond.privateMethod ({ cls := "GardenChess$Reader", name := "looked", desc := "(I)LGardenChess$Value;" } : Jvm.MethodName)) ∈ lw_tbl := lw_at lw_m5 61 rfl
theorem q1183 : (Jvm.Cond.instanceMethod ({ cls := "GardenChess$Reader", name := "looked", desc := "(I)LGardenChess$Value;" } : Jvm.MethodName)) ∈ lw_all := lw_g (lw_at lw_m5 62 rfl) rfl
theorem q1184 : (Jvm.Cond.code ({ cls := "GardenChess$Reader", name := "looked", desc := "(I)LGardenChess$Value;" } : Jvm.MethodName) prog_19_method_28_code (3 : Nat) (Option.some (Jvm.ClassFile.FieldType.object "GardenChess$Value"))) ∈ lw_all := lw_g (lw_at lw_m5 63 rfl) rfl
theorem q1185 : (Jvm.Cond.classLink "GardenChess$Reader" (341 : Nat) "GardenChess$Looked") ∈ lw_all := lw_g (lw_at lw_m5 64 rfl) rfl
theorem q1187 : (Jvm.Cond.methodLink "GardenChess$Reader" (343 : Nat) ({ cls := "GardenChess$Looked", name := "<init>", desc := "(LGardenChess;ILGardenChess$Value;)V" } : Jvm.MethodName)) ∈ lw_all := lw_g (lw_at lw_m5 66 rfl) rfl
theorem q1201 : (Jvm.Cond.stringRef "GardenChess$Reader" (298 : Nat) "min") ∈ lw_tbl := lw_at lw_m5 80 rfl
theorem q1202 : (Jvm.Cond.stringRef "GardenChess$Reader" (300 : Nat) "max") ∈ lw_tbl := lw_at lw_m5 81 rfl
theorem q1203 : (Jvm.Cond.methodLink "GardenChess$Reader" (256 : Nat) ({ cls := "GardenChess$Chain", name := "add", desc := "(CLGardenChess$Value;)V" } : Jvm.MethodName)) ∈ lw_all := lw_g (lw_at lw_m5 82 rfl) rfl
theorem q1264 : (Jvm.Cond.methodLink "GardenChess$Reader" (259 : Nat) ({ cls := "GardenChess$Reader", name := "takes", desc := "(I)Z" } : Jvm.MethodName)) ∈ lw_all := lw_g (lw_at lw_m5 143 rfl) rfl
theorem q1265 : (Jvm.Cond.privateMethod ({ cls := "GardenChess$Reader", name := "takes", desc := "(I)Z" } : Jvm.MethodName)) ∈ lw_tbl := lw_at lw_m5 144 rfl
theorem q1266 : (Jvm.Cond.instanceMethod ({ cls := "GardenChess$Reader", name := "takes", desc := "(I)Z" } : Jvm.MethodName)) ∈ lw_all := lw_g (lw_at lw_m5 145 rfl) rfl
theorem q1267 : (Jvm.Cond.code ({ cls := "GardenChess$Reader", name := "takes", desc := "(I)Z" } : Jvm.MethodName) prog_19_method_19_code (3 : Nat) (Option.some Jvm.ClassFile.FieldType.boolean)) ∈ lw_all := lw_g (lw_at lw_m5 146 rfl) rfl
theorem q1653 : (Jvm.Cond.instanceMethod ({ cls := "GardenChess$Reader", name := "question", desc := "(I)LGardenChess$Question;" } : Jvm.MethodName)) ∈ lw_all := lw_g (lw_at lw_m7 52 rfl) rfl
theorem q1654 : (Jvm.Cond.selects "GardenChess$Reader" ({ cls := "GardenChess$Reader", name := "question", desc := "(I)LGardenChess$Question;" } : Jvm.MethodName) ({ cls := "GardenChess$Reader", name := "question", desc := "(I)LGardenChess$Question;" } : Jvm.MethodName)) ∈ lw_all := lw_g (lw_at lw_m7 53 rfl) rfl
theorem q1655 : (Jvm.Cond.code ({ cls := "GardenChess$Reader", name := "question", desc := "(I)LGardenChess$Question;" } : Jvm.MethodName) prog_19_method_29_code (4 : Nat) (Option.some (Jvm.ClassFile.FieldType.object "GardenChess$Question"))) ∈ lw_all := lw_g (lw_at lw_m7 54 rfl) rfl
theorem q1656 : (Jvm.Cond.fieldLinkNest "GardenChess$Reader" (346 : Nat) "GardenChess" "TOLD_OF" "[Ljava/lang/String;" "GardenChess") ∈ lw_tbl := lw_at lw_m7 55 rfl
theorem q1658 : (Jvm.Cond.classLink "GardenChess$Reader" (349 : Nat) "GardenChess$Question") ∈ lw_all := lw_g (lw_at lw_m7 57 rfl) rfl
theorem q1660 : (Jvm.Cond.methodLink "GardenChess$Reader" (321 : Nat) ({ cls := "GardenChess$Reader", name := "test", desc := "()LGardenChess$Test;" } : Jvm.MethodName)) ∈ lw_all := lw_g (lw_at lw_m7 59 rfl) rfl
theorem q1661 : (Jvm.Cond.privateMethod ({ cls := "GardenChess$Reader", name := "test", desc := "()LGardenChess$Test;" } : Jvm.MethodName)) ∈ lw_tbl := lw_at lw_m7 60 rfl
theorem q1662 : (Jvm.Cond.instanceMethod ({ cls := "GardenChess$Reader", name := "test", desc := "()LGardenChess$Test;" } : Jvm.MethodName)) ∈ lw_all := lw_g (lw_at lw_m7 61 rfl) rfl
theorem q1663 : (Jvm.Cond.code ({ cls := "GardenChess$Reader", name := "test", desc := "()LGardenChess$Test;" } : Jvm.MethodName) prog_19_method_25_code (2 : Nat) (Option.some (Jvm.ClassFile.FieldType.object "GardenChess$Test"))) ∈ lw_all := lw_g (lw_at lw_m7 62 rfl) rfl
theorem q1664 : (Jvm.Cond.classLink "GardenChess$Reader" (302 : Nat) "GardenChess$Facts") ∈ lw_all := lw_g (lw_at lw_m7 63 rfl) rfl
theorem q1666 : (Jvm.Cond.methodLink "GardenChess$Reader" (304 : Nat) ({ cls := "GardenChess$Facts", name := "<init>", desc := "(Z)V" } : Jvm.MethodName)) ∈ lw_all := lw_g (lw_at lw_m7 65 rfl) rfl
theorem q1676 : (Jvm.Cond.fieldLinkNest "GardenChess$Reader" (307 : Nat) "GardenChess$Facts" "tests" "Ljava/util/List;" "GardenChess") ∈ lw_tbl := lw_at lw_m7 75 rfl
theorem q1683 : (Jvm.Cond.methodLink "GardenChess$Reader" (310 : Nat) ({ cls := "GardenChess$Reader", name := "both", desc := "()LGardenChess$Test;" } : Jvm.MethodName)) ∈ lw_all := lw_g (lw_at lw_m7 82 rfl) rfl
theorem q1684 : (Jvm.Cond.privateMethod ({ cls := "GardenChess$Reader", name := "both", desc := "()LGardenChess$Test;" } : Jvm.MethodName)) ∈ lw_tbl := lw_at lw_m7 83 rfl
theorem q1685 : (Jvm.Cond.instanceMethod ({ cls := "GardenChess$Reader", name := "both", desc := "()LGardenChess$Test;" } : Jvm.MethodName)) ∈ lw_all := lw_g (lw_at lw_m7 84 rfl) rfl
theorem q1686 : (Jvm.Cond.code ({ cls := "GardenChess$Reader", name := "both", desc := "()LGardenChess$Test;" } : Jvm.MethodName) prog_19_method_26_code (2 : Nat) (Option.some (Jvm.ClassFile.FieldType.object "GardenChess$Test"))) ∈ lw_all := lw_g (lw_at lw_m7 85 rfl) rfl
theorem q1687 : (Jvm.Cond.methodLink "GardenChess$Reader" (316 : Nat) ({ cls := "GardenChess$Reader", name := "fact", desc := "()LGardenChess$Test;" } : Jvm.MethodName)) ∈ lw_all := lw_g (lw_at lw_m7 86 rfl) rfl
theorem q1688 : (Jvm.Cond.privateMethod ({ cls := "GardenChess$Reader", name := "fact", desc := "()LGardenChess$Test;" } : Jvm.MethodName)) ∈ lw_tbl := lw_at lw_m7 87 rfl
theorem q1689 : (Jvm.Cond.instanceMethod ({ cls := "GardenChess$Reader", name := "fact", desc := "()LGardenChess$Test;" } : Jvm.MethodName)) ∈ lw_all := lw_g (lw_at lw_m7 88 rfl) rfl
theorem q1690 : (Jvm.Cond.code ({ cls := "GardenChess$Reader", name := "fact", desc := "()LGardenChess$Test;" } : Jvm.MethodName) prog_19_method_27_code (3 : Nat) (Option.some (Jvm.ClassFile.FieldType.object "GardenChess$Test"))) ∈ lw_all := lw_g (lw_at lw_m7 89 rfl) rfl
theorem q1691 : (Jvm.Cond.stringRef "GardenChess$Reader" (324 : Nat) "not") ∈ lw_tbl := lw_at lw_m7 90 rfl
theorem q1692 : (Jvm.Cond.classLink "GardenChess$Reader" (326 : Nat) "GardenChess$Not") ∈ lw_all := lw_g (lw_at lw_m7 91 rfl) rfl
theorem q1694 : (Jvm.Cond.methodLink "GardenChess$Reader" (328 : Nat) ({ cls := "GardenChess$Not", name := "<init>", desc := "(LGardenChess$Test;)V" } : Jvm.MethodName)) ∈ lw_all := lw_g (lw_at lw_m7 93 rfl) rfl
theorem q1702 : (Jvm.Cond.stringRef "GardenChess$Reader" (331 : Nat) "all") ∈ lw_tbl := lw_at lw_m7 101 rfl
theorem q1703 : (Jvm.Cond.classLink "GardenChess$Reader" (333 : Nat) "GardenChess$All") ∈ lw_all := lw_g (lw_at lw_m7 102 rfl) rfl
theorem q1705 : (Jvm.Cond.methodLinkNest "GardenChess$Reader" (335 : Nat) ({ cls := "GardenChess$All", name := "<init>", desc := "()V" } : Jvm.MethodName) "GardenChess") ∈ lw_tbl := lw_at lw_m7 104 rfl
theorem q1710 : (Jvm.Cond.classLink "GardenChess$Reader" (336 : Nat) "GardenChess$Than") ∈ lw_all := lw_g (lw_at lw_m7 109 rfl) rfl
theorem q1712 : (Jvm.Cond.methodLink "GardenChess$Reader" (338 : Nat) ({ cls := "GardenChess$Than", name := "<init>", desc := "(LGardenChess$Value;ILGardenChess$Value;)V" } : Jvm.MethodName)) ∈ lw_all := lw_g (lw_at lw_m7 111 rfl) rfl
theorem q1726 : (Jvm.Cond.stringRef "GardenChess$Reader" (319 : Nat) "and") ∈ lw_tbl := lw_at lw_m7 125 rfl
theorem q1727 : (Jvm.Cond.stringRef "GardenChess$Reader" (314 : Nat) "or") ∈ lw_tbl := lw_at lw_m7 126 rfl
theorem q1728 : (Jvm.Cond.methodLink "GardenChess$Reader" (351 : Nat) ({ cls := "GardenChess$Question", name := "<init>", desc := "(ILGardenChess$Test;LGardenChess$Value;)V" } : Jvm.MethodName)) ∈ lw_all := lw_g (lw_at lw_m7 127 rfl) rfl
theorem q2811 : (Jvm.Cond.castable "GardenChess$Reader" "java/lang/Object") ∈ lw_tbl := lw_at lw_m12 10 rfl
theorem q200 : (Jvm.Cond.initialized "GardenChess$Facts") ∈ lw_all := lw_g (lw_at lw_m1 39 rfl) rfl
theorem q973 : (Jvm.Cond.selects "GardenChess$Facts" ({ cls := "java/lang/Object", name := "getClass", desc := "()Ljava/lang/Class;" } : Jvm.MethodName) ({ cls := "java/lang/Object", name := "getClass", desc := "()Ljava/lang/Class;" } : Jvm.MethodName)) ∈ lw_all := lw_g (lw_at lw_m4 92 rfl) rfl
theorem q1665 : (Jvm.Cond.instantiable "GardenChess$Facts" (2 : Nat)) ∈ lw_all := lw_g (lw_at lw_m7 64 rfl) rfl
theorem q1667 : (Jvm.Cond.instanceMethod ({ cls := "GardenChess$Facts", name := "<init>", desc := "(Z)V" } : Jvm.MethodName)) ∈ lw_all := lw_g (lw_at lw_m7 66 rfl) rfl
theorem q1668 : (Jvm.Cond.code ({ cls := "GardenChess$Facts", name := "<init>", desc := "(Z)V" } : Jvm.MethodName) prog_6_method_1_code (2 : Nat) (Option.none : Option Jvm.ClassFile.FieldType)) ∈ lw_all := lw_g (lw_at lw_m7 67 rfl) rfl
theorem q1669 : (Jvm.Cond.methodLinkNest "GardenChess$Facts" (1 : Nat) ({ cls := "GardenChess$Test", name := "<init>", desc := "()V" } : Jvm.MethodName) "GardenChess") ∈ lw_tbl := lw_at lw_m7 68 rfl
theorem q1673 : (Jvm.Cond.classLink "GardenChess$Facts" (7 : Nat) "java/util/ArrayList") ∈ lw_all := lw_g (lw_at lw_m7 72 rfl) rfl
theorem q1674 : (Jvm.Cond.methodLink "GardenChess$Facts" (9 : Nat) ({ cls := "java/util/ArrayList", name := "<init>", desc := "(I)V" } : Jvm.MethodName)) ∈ lw_all := lw_g (lw_at lw_m7 73 rfl) rfl
theorem q1675 : (Jvm.Cond.fieldLink "GardenChess$Facts" (12 : Nat) "GardenChess$Facts" "tests" "Ljava/util/List;") ∈ lw_all := lw_g (lw_at lw_m7 74 rfl) rfl
theorem q1677 : (Jvm.Cond.fieldLink "GardenChess$Facts" (18 : Nat) "GardenChess$Facts" "all" "Z") ∈ lw_all := lw_g (lw_at lw_m7 76 rfl) rfl
theorem q1678 : (Jvm.Cond.laysFinal "GardenChess$Facts" "GardenChess$Facts" "tests" "Ljava/util/List;") ∈ lw_all := lw_g (lw_at lw_m7 77 rfl) rfl
theorem q1679 : (Jvm.Cond.soleField "GardenChess$Facts" "tests") ∈ lw_all := lw_g (lw_at lw_m7 78 rfl) rfl
theorem q1680 : (Jvm.Cond.laysFinal "GardenChess$Facts" "GardenChess$Facts" "all" "Z") ∈ lw_all := lw_g (lw_at lw_m7 79 rfl) rfl
theorem q1681 : (Jvm.Cond.soleField "GardenChess$Facts" "all") ∈ lw_all := lw_g (lw_at lw_m7 80 rfl) rfl
theorem q1682 : (Jvm.Cond.superclass "GardenChess$Facts" "GardenChess$Test") ∈ lw_all := lw_g (lw_at lw_m7 81 rfl) rfl
theorem q1759 : (Jvm.Cond.selects "GardenChess$Facts" ({ cls := "GardenChess$Test", name := "holds", desc := "(LGardenChess$Moment;)Z" } : Jvm.MethodName) ({ cls := "GardenChess$Facts", name := "holds", desc := "(LGardenChess$Moment;)Z" } : Jvm.MethodName)) ∈ lw_all := lw_g (lw_at lw_m7 158 rfl) rfl
theorem q1760 : (Jvm.Cond.instanceMethod ({ cls := "GardenChess$Facts", name := "holds", desc := "(LGardenChess$Moment;)Z" } : Jvm.MethodName)) ∈ lw_all := lw_g (lw_at lw_m7 159 rfl) rfl
theorem q1761 : (Jvm.Cond.code ({ cls := "GardenChess$Facts", name := "holds", desc := "(LGardenChess$Moment;)Z" } : Jvm.MethodName) prog_6_method_2_code (3 : Nat) (Option.some Jvm.ClassFile.FieldType.boolean)) ∈ lw_all := lw_g (lw_at lw_m7 160 rfl) rfl
theorem q1762 : (Jvm.Cond.interfaceEntry "GardenChess$Facts" (22 : Nat)) ∈ lw_tbl := lw_at lw_m7 161 rfl
theorem q1763 : (Jvm.Cond.methodLink "GardenChess$Facts" (22 : Nat) ({ cls := "java/util/List", name := "size", desc := "()I" } : Jvm.MethodName)) ∈ lw_all := lw_g (lw_at lw_m7 162 rfl) rfl
theorem q1764 : (Jvm.Cond.interfaceEntry "GardenChess$Facts" (28 : Nat)) ∈ lw_tbl := lw_at lw_m7 163 rfl
theorem q1765 : (Jvm.Cond.methodLink "GardenChess$Facts" (28 : Nat) ({ cls := "java/util/List", name := "get", desc := "(I)Ljava/lang/Object;" } : Jvm.MethodName)) ∈ lw_all := lw_g (lw_at lw_m7 164 rfl) rfl
theorem q1766 : (Jvm.Cond.classLink "GardenChess$Facts" (2 : Nat) "GardenChess$Test") ∈ lw_all := lw_g (lw_at lw_m7 165 rfl) rfl
theorem q1767 : (Jvm.Cond.methodLink "GardenChess$Facts" (32 : Nat) ({ cls := "GardenChess$Test", name := "holds", desc := "(LGardenChess$Moment;)Z" } : Jvm.MethodName)) ∈ lw_all := lw_g (lw_at lw_m7 166 rfl) rfl
theorem q2802 : (Jvm.Cond.castable "GardenChess$Facts" "GardenChess$Test") ∈ lw_tbl := lw_at lw_m12 1 rfl
theorem q2826 : (Jvm.Cond.castable "GardenChess$Facts" "java/lang/Object") ∈ lw_tbl := lw_at lw_m12 25 rfl
theorem q201 : (Jvm.Cond.initialized "GardenChess$Not") ∈ lw_all := lw_g (lw_at lw_m1 40 rfl) rfl
theorem q982 : (Jvm.Cond.selects "GardenChess$Not" ({ cls := "java/lang/Object", name := "getClass", desc := "()Ljava/lang/Class;" } : Jvm.MethodName) ({ cls := "java/lang/Object", name := "getClass", desc := "()Ljava/lang/Class;" } : Jvm.MethodName)) ∈ lw_all := lw_g (lw_at lw_m4 101 rfl) rfl
theorem q1693 : (Jvm.Cond.instantiable "GardenChess$Not" (1 : Nat)) ∈ lw_all := lw_g (lw_at lw_m7 92 rfl) rfl
theorem q1695 : (Jvm.Cond.instanceMethod ({ cls := "GardenChess$Not", name := "<init>", desc := "(LGardenChess$Test;)V" } : Jvm.MethodName)) ∈ lw_all := lw_g (lw_at lw_m7 94 rfl) rfl
theorem q1696 : (Jvm.Cond.code ({ cls := "GardenChess$Not", name := "<init>", desc := "(LGardenChess$Test;)V" } : Jvm.MethodName) prog_16_method_1_code (2 : Nat) (Option.none : Option Jvm.ClassFile.FieldType)) ∈ lw_all := lw_g (lw_at lw_m7 95 rfl) rfl
theorem q1697 : (Jvm.Cond.methodLinkNest "GardenChess$Not" (1 : Nat) ({ cls := "GardenChess$Test", name := "<init>", desc := "()V" } : Jvm.MethodName) "GardenChess") ∈ lw_tbl := lw_at lw_m7 96 rfl
theorem q1698 : (Jvm.Cond.fieldLink "GardenChess$Not" (7 : Nat) "GardenChess$Not" "test" "LGardenChess$Test;") ∈ lw_all := lw_g (lw_at lw_m7 97 rfl) rfl
theorem q1699 : (Jvm.Cond.laysFinal "GardenChess$Not" "GardenChess$Not" "test" "LGardenChess$Test;") ∈ lw_all := lw_g (lw_at lw_m7 98 rfl) rfl
theorem q1700 : (Jvm.Cond.soleField "GardenChess$Not" "test") ∈ lw_all := lw_g (lw_at lw_m7 99 rfl) rfl
theorem q1701 : (Jvm.Cond.superclass "GardenChess$Not" "GardenChess$Test") ∈ lw_all := lw_g (lw_at lw_m7 100 rfl) rfl
theorem q1768 : (Jvm.Cond.instanceMethod ({ cls := "GardenChess$Not", name := "holds", desc := "(LGardenChess$Moment;)Z" } : Jvm.MethodName)) ∈ lw_all := lw_g (lw_at lw_m7 167 rfl) rfl
theorem q1769 : (Jvm.Cond.code ({ cls := "GardenChess$Not", name := "holds", desc := "(LGardenChess$Moment;)Z" } : Jvm.MethodName) prog_16_method_2_code (2 : Nat) (Option.some Jvm.ClassFile.FieldType.boolean)) ∈ lw_all := lw_g (lw_at lw_m7 168 rfl) rfl
theorem q1770 : (Jvm.Cond.methodLink "GardenChess$Not" (13 : Nat) ({ cls := "GardenChess$Test", name := "holds", desc := "(LGardenChess$Moment;)Z" } : Jvm.MethodName)) ∈ lw_all := lw_g (lw_at lw_m7 169 rfl) rfl
theorem q1774 : (Jvm.Cond.selects "GardenChess$Not" ({ cls := "GardenChess$Test", name := "holds", desc := "(LGardenChess$Moment;)Z" } : Jvm.MethodName) ({ cls := "GardenChess$Not", name := "holds", desc := "(LGardenChess$Moment;)Z" } : Jvm.MethodName)) ∈ lw_all := lw_g (lw_at lw_m7 173 rfl) rfl
theorem q2803 : (Jvm.Cond.castable "GardenChess$Not" "GardenChess$Test") ∈ lw_tbl := lw_at lw_m12 2 rfl
theorem q2827 : (Jvm.Cond.castable "GardenChess$Not" "java/lang/Object") ∈ lw_tbl := lw_at lw_m12 26 rfl
theorem q202 : (Jvm.Cond.initialized "GardenChess$All") ∈ lw_all := lw_g (lw_at lw_m1 41 rfl) rfl
theorem q969 : (Jvm.Cond.selects "GardenChess$All" ({ cls := "java/lang/Object", name := "getClass", desc := "()Ljava/lang/Class;" } : Jvm.MethodName) ({ cls := "java/lang/Object", name := "getClass", desc := "()Ljava/lang/Class;" } : Jvm.MethodName)) ∈ lw_all := lw_g (lw_at lw_m4 88 rfl) rfl
theorem q1704 : (Jvm.Cond.instantiable "GardenChess$All" (0 : Nat)) ∈ lw_all := lw_g (lw_at lw_m7 103 rfl) rfl
theorem q1706 : (Jvm.Cond.instanceMethod ({ cls := "GardenChess$All", name := "<init>", desc := "()V" } : Jvm.MethodName)) ∈ lw_all := lw_g (lw_at lw_m7 105 rfl) rfl
theorem q1707 : (Jvm.Cond.code ({ cls := "GardenChess$All", name := "<init>", desc := "()V" } : Jvm.MethodName) prog_2_method_1_code (1 : Nat) (Option.none : Option Jvm.ClassFile.FieldType)) ∈ lw_all := lw_g (lw_at lw_m7 106 rfl) rfl
theorem q1708 : (Jvm.Cond.methodLinkNest "GardenChess$All" (1 : Nat) ({ cls := "GardenChess$Test", name := "<init>", desc := "()V" } : Jvm.MethodName) "GardenChess") ∈ lw_tbl := lw_at lw_m7 107 rfl
theorem q1709 : (Jvm.Cond.superclass "GardenChess$All" "GardenChess$Test") ∈ lw_all := lw_g (lw_at lw_m7 108 rfl) rfl
theorem q1756 : (Jvm.Cond.selects "GardenChess$All" ({ cls := "GardenChess$Test", name := "holds", desc := "(LGardenChess$Moment;)Z" } : Jvm.MethodName) ({ cls := "GardenChess$All", name := "holds", desc := "(LGardenChess$Moment;)Z" } : Jvm.MethodName)) ∈ lw_all := lw_g (lw_at lw_m7 155 rfl) rfl
theorem q1757 : (Jvm.Cond.instanceMethod ({ cls := "GardenChess$All", name := "holds", desc := "(LGardenChess$Moment;)Z" } : Jvm.MethodName)) ∈ lw_all := lw_g (lw_at lw_m7 156 rfl) rfl
theorem q1758 : (Jvm.Cond.code ({ cls := "GardenChess$All", name := "holds", desc := "(LGardenChess$Moment;)Z" } : Jvm.MethodName) prog_2_method_2_code (2 : Nat) (Option.some Jvm.ClassFile.FieldType.boolean)) ∈ lw_all := lw_g (lw_at lw_m7 157 rfl) rfl
theorem q2801 : (Jvm.Cond.castable "GardenChess$All" "GardenChess$Test") ∈ lw_tbl := lw_at lw_m12 0 rfl
theorem q2828 : (Jvm.Cond.castable "GardenChess$All" "java/lang/Object") ∈ lw_tbl := lw_at lw_m12 27 rfl
theorem q203 : (Jvm.Cond.initialized "GardenChess$Than") ∈ lw_all := lw_g (lw_at lw_m1 42 rfl) rfl
theorem q987 : (Jvm.Cond.selects "GardenChess$Than" ({ cls := "java/lang/Object", name := "getClass", desc := "()Ljava/lang/Class;" } : Jvm.MethodName) ({ cls := "java/lang/Object", name := "getClass", desc := "()Ljava/lang/Class;" } : Jvm.MethodName)) ∈ lw_all := lw_g (lw_at lw_m4 106 rfl) rfl
theorem q1711 : (Jvm.Cond.instantiable "GardenChess$Than" (3 : Nat)) ∈ lw_all := lw_g (lw_at lw_m7 110 rfl) rfl
theorem q1713 : (Jvm.Cond.instanceMethod ({ cls := "GardenChess$Than", name := "<init>", desc := "(LGardenChess$Value;ILGardenChess$Value;)V" } : Jvm.MethodName)) ∈ lw_all := lw_g (lw_at lw_m7 112 rfl) rfl
theorem q1714 : (Jvm.Cond.code ({ cls := "GardenChess$Than", name := "<init>", desc := "(LGardenChess$Value;ILGardenChess$Value;)V" } : Jvm.MethodName) prog_22_method_1_code (4 : Nat) (Option.none : Option Jvm.ClassFile.FieldType)) ∈ lw_all := lw_g (lw_at lw_m7 113 rfl) rfl
theorem q1715 : (Jvm.Cond.methodLinkNest "GardenChess$Than" (1 : Nat) ({ cls := "GardenChess$Test", name := "<init>", desc := "()V" } : Jvm.MethodName) "GardenChess") ∈ lw_tbl := lw_at lw_m7 114 rfl
theorem q1716 : (Jvm.Cond.fieldLink "GardenChess$Than" (7 : Nat) "GardenChess$Than" "a" "LGardenChess$Value;") ∈ lw_all := lw_g (lw_at lw_m7 115 rfl) rfl
theorem q1717 : (Jvm.Cond.fieldLink "GardenChess$Than" (17 : Nat) "GardenChess$Than" "b" "LGardenChess$Value;") ∈ lw_all := lw_g (lw_at lw_m7 116 rfl) rfl
theorem q1718 : (Jvm.Cond.fieldLink "GardenChess$Than" (13 : Nat) "GardenChess$Than" "sign" "I") ∈ lw_all := lw_g (lw_at lw_m7 117 rfl) rfl
theorem q1719 : (Jvm.Cond.laysFinal "GardenChess$Than" "GardenChess$Than" "a" "LGardenChess$Value;") ∈ lw_all := lw_g (lw_at lw_m7 118 rfl) rfl
theorem q1720 : (Jvm.Cond.soleField "GardenChess$Than" "a") ∈ lw_all := lw_g (lw_at lw_m7 119 rfl) rfl
theorem q1721 : (Jvm.Cond.laysFinal "GardenChess$Than" "GardenChess$Than" "b" "LGardenChess$Value;") ∈ lw_all := lw_g (lw_at lw_m7 120 rfl) rfl
theorem q1722 : (Jvm.Cond.soleField "GardenChess$Than" "b") ∈ lw_all := lw_g (lw_at lw_m7 121 rfl) rfl
theorem q1723 : (Jvm.Cond.laysFinal "GardenChess$Than" "GardenChess$Than" "sign" "I") ∈ lw_all := lw_g (lw_at lw_m7 122 rfl) rfl
theorem q1724 : (Jvm.Cond.soleField "GardenChess$Than" "sign") ∈ lw_all := lw_g (lw_at lw_m7 123 rfl) rfl
theorem q1725 : (Jvm.Cond.superclass "GardenChess$Than" "GardenChess$Test") ∈ lw_all := lw_g (lw_at lw_m7 124 rfl) rfl
theorem q1771 : (Jvm.Cond.instanceMethod ({ cls := "GardenChess$Than", name := "holds", desc := "(LGardenChess$Moment;)Z" } : Jvm.MethodName)) ∈ lw_all := lw_g (lw_at lw_m7 170 rfl) rfl
theorem q1772 : (Jvm.Cond.code ({ cls := "GardenChess$Than", name := "holds", desc := "(LGardenChess$Moment;)Z" } : Jvm.MethodName) prog_22_method_2_code (6 : Nat) (Option.some Jvm.ClassFile.FieldType.boolean)) ∈ lw_all := lw_g (lw_at lw_m7 171 rfl) rfl
theorem q1773 : (Jvm.Cond.methodLink "GardenChess$Than" (20 : Nat) ({ cls := "GardenChess$Value", name := "at", desc := "(LGardenChess$Moment;)J" } : Jvm.MethodName)) ∈ lw_all := lw_g (lw_at lw_m7 172 rfl) rfl
theorem q1775 : (Jvm.Cond.selects "GardenChess$Than" ({ cls := "GardenChess$Test", name := "holds", desc := "(LGardenChess$Moment;)Z" } : Jvm.MethodName) ({ cls := "GardenChess$Than", name := "holds", desc := "(LGardenChess$Moment;)Z" } : Jvm.MethodName)) ∈ lw_all := lw_g (lw_at lw_m7 174 rfl) rfl
theorem q2804 : (Jvm.Cond.castable "GardenChess$Than" "GardenChess$Test") ∈ lw_tbl := lw_at lw_m12 3 rfl
theorem q2829 : (Jvm.Cond.castable "GardenChess$Than" "java/lang/Object") ∈ lw_tbl := lw_at lw_m12 28 rfl
theorem q171 : (Jvm.Cond.initialized "GardenChess$Fault") ∈ lw_all := lw_g (lw_at lw_m1 10 rfl) rfl
theorem q303 : (Jvm.Cond.instantiable "GardenChess$Fault" (8 : Nat)) ∈ lw_all := lw_g (lw_at lw_m1 142 rfl) rfl
theorem q304 : (Jvm.Cond.castable "GardenChess$Fault" "GardenChess$Fault") ∈ lw_tbl := lw_at lw_m1 143 rfl
theorem q311 : (Jvm.Cond.selects "GardenChess$Fault" ({ cls := "java/lang/Throwable", name := "fillInStackTrace", desc := "(I)Ljava/lang/Throwable;" } : Jvm.MethodName) ({ cls := "java/lang/Throwable", name := "fillInStackTrace", desc := "(I)Ljava/lang/Throwable;" } : Jvm.MethodName)) ∈ lw_all := lw_g (lw_at lw_m1 150 rfl) rfl
theorem q312 : (Jvm.Cond.selects "GardenChess$Fault" ({ cls := "java/lang/Throwable", name := "fillInStackTrace", desc := "()Ljava/lang/Throwable;" } : Jvm.MethodName) ({ cls := "java/lang/Throwable", name := "fillInStackTrace", desc := "()Ljava/lang/Throwable;" } : Jvm.MethodName)) ∈ lw_all := lw_g (lw_at lw_m1 151 rfl) rfl
theorem q313 : (Jvm.Cond.lays "GardenChess$Fault" "java/lang/Throwable" "cause" "Ljava/lang/Throwable;") ∈ lw_all := lw_g (lw_at lw_m1 152 rfl) rfl
theorem q315 : (Jvm.Cond.lays "GardenChess$Fault" "java/lang/Throwable" "stackTrace" "[Ljava/lang/StackTraceElement;") ∈ lw_all := lw_g (lw_at lw_m1 154 rfl) rfl
theorem q317 : (Jvm.Cond.lays "GardenChess$Fault" "java/lang/Throwable" "suppressedExceptions" "Ljava/util/List;") ∈ lw_all := lw_g (lw_at lw_m1 156 rfl) rfl
theorem q319 : (Jvm.Cond.lays "GardenChess$Fault" "java/lang/Throwable" "detailMessage" "Ljava/lang/String;") ∈ lw_all := lw_g (lw_at lw_m1 158 rfl) rfl
theorem q321 : (Jvm.Cond.lays "GardenChess$Fault" "java/lang/Throwable" "backtrace" "Ljava/lang/Object;") ∈ lw_all := lw_g (lw_at lw_m1 160 rfl) rfl
theorem q342 : (Jvm.Cond.instanceMethod ({ cls := "GardenChess$Fault", name := "<init>", desc := "()V" } : Jvm.MethodName)) ∈ lw_all := lw_g (lw_at lw_m1 181 rfl) rfl
theorem q343 : (Jvm.Cond.code ({ cls := "GardenChess$Fault", name := "<init>", desc := "()V" } : Jvm.MethodName) prog_7_method_1_code (1 : Nat) (Option.none : Option Jvm.ClassFile.FieldType)) ∈ lw_all := lw_g (lw_at lw_m1 182 rfl) rfl
theorem q344 : (Jvm.Cond.methodLink "GardenChess$Fault" (1 : Nat) ({ cls := "java/lang/RuntimeException", name := "<init>", desc := "(Ljava/lang/String;Ljava/lang/Throwable;ZZ)V" } : Jvm.MethodName)) ∈ lw_all := lw_g (lw_at lw_m1 183 rfl) rfl
theorem q362 : (Jvm.Cond.lays "GardenChess$Fault" "GardenChess$Fault" "kind" "I") ∈ lw_all := lw_g (lw_at lw_m1 201 rfl) rfl
theorem q363 : (Jvm.Cond.soleField "GardenChess$Fault" "kind") ∈ lw_all := lw_g (lw_at lw_m1 202 rfl) rfl
theorem q364 : (Jvm.Cond.lays "GardenChess$Fault" "GardenChess$Fault" "place" "I") ∈ lw_all := lw_g (lw_at lw_m1 203 rfl) rfl
theorem q365 : (Jvm.Cond.soleField "GardenChess$Fault" "place") ∈ lw_all := lw_g (lw_at lw_m1 204 rfl) rfl
theorem q370 : (Jvm.Cond.lays "GardenChess$Fault" "java/lang/Throwable" "depth" "I") ∈ lw_all := lw_g (lw_at lw_m1 209 rfl) rfl
theorem q373 : (Jvm.Cond.superclass "GardenChess$Fault" "java/lang/RuntimeException") ∈ lw_all := lw_g (lw_at lw_m1 212 rfl) rfl
theorem q974 : (Jvm.Cond.selects "GardenChess$Fault" ({ cls := "java/lang/Object", name := "getClass", desc := "()Ljava/lang/Class;" } : Jvm.MethodName) ({ cls := "java/lang/Object", name := "getClass", desc := "()Ljava/lang/Class;" } : Jvm.MethodName)) ∈ lw_all := lw_g (lw_at lw_m4 93 rfl) rfl
theorem q2812 : (Jvm.Cond.castable "GardenChess$Fault" "java/lang/Object") ∈ lw_tbl := lw_at lw_m12 11 rfl
theorem q172 : (Jvm.Cond.initialized "GardenChess$Moment") ∈ lw_all := lw_g (lw_at lw_m1 11 rfl) rfl
theorem q401 : (Jvm.Cond.instantiable "GardenChess$Moment" (1 : Nat)) ∈ lw_all := lw_g (lw_at lw_m2 0 rfl) rfl
theorem q403 : (Jvm.Cond.instanceMethod ({ cls := "GardenChess$Moment", name := "<init>", desc := "()V" } : Jvm.MethodName)) ∈ lw_all := lw_g (lw_at lw_m2 2 rfl) rfl
theorem q404 : (Jvm.Cond.code ({ cls := "GardenChess$Moment", name := "<init>", desc := "()V" } : Jvm.MethodName) prog_13_method_1_code (1 : Nat) (Option.none : Option Jvm.ClassFile.FieldType)) ∈ lw_all := lw_g (lw_at lw_m2 3 rfl) rfl
theorem q405 : (Jvm.Cond.methodLink "GardenChess$Moment" (1 : Nat) ({ cls := "java/lang/Object", name := "<init>", desc := "()V" } : Jvm.MethodName)) ∈ lw_all := lw_g (lw_at lw_m2 4 rfl) rfl
theorem q406 : (Jvm.Cond.fieldLink "GardenChess$Moment" (7 : Nat) "GardenChess$Moment" "of" "[J") ∈ lw_all := lw_g (lw_at lw_m2 5 rfl) rfl
theorem q410 : (Jvm.Cond.laysFinal "GardenChess$Moment" "GardenChess$Moment" "of" "[J") ∈ lw_all := lw_g (lw_at lw_m2 9 rfl) rfl
theorem q411 : (Jvm.Cond.soleField "GardenChess$Moment" "of") ∈ lw_all := lw_g (lw_at lw_m2 10 rfl) rfl
theorem q412 : (Jvm.Cond.superclass "GardenChess$Moment" "java/lang/Object") ∈ lw_all := lw_g (lw_at lw_m2 11 rfl) rfl
theorem q980 : (Jvm.Cond.selects "GardenChess$Moment" ({ cls := "java/lang/Object", name := "getClass", desc := "()Ljava/lang/Class;" } : Jvm.MethodName) ({ cls := "java/lang/Object", name := "getClass", desc := "()Ljava/lang/Class;" } : Jvm.MethodName)) ∈ lw_all := lw_g (lw_at lw_m4 99 rfl) rfl
theorem q2813 : (Jvm.Cond.castable "GardenChess$Moment" "java/lang/Object") ∈ lw_tbl := lw_at lw_m12 12 rfl
theorem q173 : (Jvm.Cond.initialized "GardenChess$Moves") ∈ lw_all := lw_g (lw_at lw_m1 12 rfl) rfl
theorem q416 : (Jvm.Cond.instantiable "GardenChess$Moves" (3 : Nat)) ∈ lw_all := lw_g (lw_at lw_m2 15 rfl) rfl
theorem q418 : (Jvm.Cond.instanceMethod ({ cls := "GardenChess$Moves", name := "<init>", desc := "()V" } : Jvm.MethodName)) ∈ lw_all := lw_g (lw_at lw_m2 17 rfl) rfl
theorem q419 : (Jvm.Cond.code ({ cls := "GardenChess$Moves", name := "<init>", desc := "()V" } : Jvm.MethodName) prog_14_method_1_code (1 : Nat) (Option.none : Option Jvm.ClassFile.FieldType)) ∈ lw_all := lw_g (lw_at lw_m2 18 rfl) rfl
theorem q420 : (Jvm.Cond.methodLink "GardenChess$Moves" (3 : Nat) ({ cls := "java/lang/Object", name := "<init>", desc := "()V" } : Jvm.MethodName)) ∈ lw_all := lw_g (lw_at lw_m2 19 rfl) rfl
theorem q421 : (Jvm.Cond.fieldLink "GardenChess$Moves" (9 : Nat) "GardenChess$Moves" "man" "[I") ∈ lw_all := lw_g (lw_at lw_m2 20 rfl) rfl
theorem q424 : (Jvm.Cond.fieldLink "GardenChess$Moves" (15 : Nat) "GardenChess$Moves" "place" "[I") ∈ lw_all := lw_g (lw_at lw_m2 23 rfl) rfl
theorem q427 : (Jvm.Cond.fieldLink "GardenChess$Moves" (18 : Nat) "GardenChess$Moves" "many" "I") ∈ lw_all := lw_g (lw_at lw_m2 26 rfl) rfl
theorem q430 : (Jvm.Cond.laysFinal "GardenChess$Moves" "GardenChess$Moves" "man" "[I") ∈ lw_all := lw_g (lw_at lw_m2 29 rfl) rfl
theorem q431 : (Jvm.Cond.soleField "GardenChess$Moves" "man") ∈ lw_all := lw_g (lw_at lw_m2 30 rfl) rfl
theorem q432 : (Jvm.Cond.laysFinal "GardenChess$Moves" "GardenChess$Moves" "place" "[I") ∈ lw_all := lw_g (lw_at lw_m2 31 rfl) rfl
theorem q433 : (Jvm.Cond.soleField "GardenChess$Moves" "place") ∈ lw_all := lw_g (lw_at lw_m2 32 rfl) rfl
theorem q434 : (Jvm.Cond.lays "GardenChess$Moves" "GardenChess$Moves" "many" "I") ∈ lw_all := lw_g (lw_at lw_m2 33 rfl) rfl
theorem q435 : (Jvm.Cond.soleField "GardenChess$Moves" "many") ∈ lw_all := lw_g (lw_at lw_m2 34 rfl) rfl
theorem q436 : (Jvm.Cond.superclass "GardenChess$Moves" "java/lang/Object") ∈ lw_all := lw_g (lw_at lw_m2 35 rfl) rfl
theorem q981 : (Jvm.Cond.selects "GardenChess$Moves" ({ cls := "java/lang/Object", name := "getClass", desc := "()Ljava/lang/Class;" } : Jvm.MethodName) ({ cls := "java/lang/Object", name := "getClass", desc := "()Ljava/lang/Class;" } : Jvm.MethodName)) ∈ lw_all := lw_g (lw_at lw_m4 100 rfl) rfl
theorem q1315 : (Jvm.Cond.instanceMethod ({ cls := "GardenChess$Moves", name := "add", desc := "(II)V" } : Jvm.MethodName)) ∈ lw_all := lw_g (lw_at lw_m5 194 rfl) rfl
theorem q1316 : (Jvm.Cond.selects "GardenChess$Moves" ({ cls := "GardenChess$Moves", name := "add", desc := "(II)V" } : Jvm.MethodName) ({ cls := "GardenChess$Moves", name := "add", desc := "(II)V" } : Jvm.MethodName)) ∈ lw_all := lw_g (lw_at lw_m5 195 rfl) rfl
theorem q1317 : (Jvm.Cond.code ({ cls := "GardenChess$Moves", name := "add", desc := "(II)V" } : Jvm.MethodName) prog_14_method_2_code (3 : Nat) (Option.none : Option Jvm.ClassFile.FieldType)) ∈ lw_all := lw_g (lw_at lw_m5 196 rfl) rfl
theorem q2805 : (Jvm.Cond.castable "GardenChess$Moves" "java/lang/Object") ∈ lw_tbl := lw_at lw_m12 4 rfl
theorem q174 : (Jvm.Cond.initialized "GardenChess$State") ∈ lw_all := lw_g (lw_at lw_m1 13 rfl) rfl
theorem q249 : (Jvm.Cond.fieldLinkNest "GardenChess$State" (123 : Nat) "GardenChess$Board" "columns" "I" "GardenChess") ∈ lw_tbl := lw_at lw_m1 88 rfl
theorem q252 : (Jvm.Cond.fieldLinkNest "GardenChess$State" (121 : Nat) "GardenChess$Board" "rows" "I" "GardenChess") ∈ lw_tbl := lw_at lw_m1 91 rfl
theorem q256 : (Jvm.Cond.fieldLinkNest "GardenChess$State" (222 : Nat) "GardenChess$Board" "grows" "I" "GardenChess") ∈ lw_tbl := lw_at lw_m1 95 rfl
theorem q261 : (Jvm.Cond.fieldLinkNest "GardenChess$State" (234 : Nat) "GardenChess$Board" "looks" "[I" "GardenChess") ∈ lw_tbl := lw_at lw_m1 100 rfl
theorem q270 : (Jvm.Cond.fieldLinkNest "GardenChess$State" (63 : Nat) "GardenChess$Board" "fields" "Ljava/util/List;" "GardenChess") ∈ lw_tbl := lw_at lw_m1 109 rfl
theorem q273 : (Jvm.Cond.fieldLinkNest "GardenChess$State" (178 : Nat) "GardenChess$Board" "harm" "LGardenChess$Value;" "GardenChess") ∈ lw_tbl := lw_at lw_m1 112 rfl
theorem q408 : (Jvm.Cond.fieldLinkNest "GardenChess$State" (189 : Nat) "GardenChess$Moment" "of" "[J" "GardenChess") ∈ lw_tbl := lw_at lw_m2 7 rfl
theorem q422 : (Jvm.Cond.fieldLinkNest "GardenChess$State" (157 : Nat) "GardenChess$Moves" "man" "[I" "GardenChess") ∈ lw_tbl := lw_at lw_m2 21 rfl
theorem q425 : (Jvm.Cond.fieldLinkNest "GardenChess$State" (160 : Nat) "GardenChess$Moves" "place" "[I" "GardenChess") ∈ lw_tbl := lw_at lw_m2 24 rfl
theorem q428 : (Jvm.Cond.fieldLinkNest "GardenChess$State" (116 : Nat) "GardenChess$Moves" "many" "I" "GardenChess") ∈ lw_tbl := lw_at lw_m2 27 rfl
theorem q438 : (Jvm.Cond.instantiable "GardenChess$State" (12 : Nat)) ∈ lw_all := lw_g (lw_at lw_m2 37 rfl) rfl
theorem q440 : (Jvm.Cond.instanceMethod ({ cls := "GardenChess$State", name := "<init>", desc := "(LGardenChess;)V" } : Jvm.MethodName)) ∈ lw_all := lw_g (lw_at lw_m2 39 rfl) rfl
theorem q441 : (Jvm.Cond.code ({ cls := "GardenChess$State", name := "<init>", desc := "(LGardenChess;)V" } : Jvm.MethodName) prog_20_method_1_code (2 : Nat) (Option.none : Option Jvm.ClassFile.FieldType)) ∈ lw_all := lw_g (lw_at lw_m2 40 rfl) rfl
theorem q442 : (Jvm.Cond.methodLink "GardenChess$State" (9 : Nat) ({ cls := "java/lang/Object", name := "<init>", desc := "()V" } : Jvm.MethodName)) ∈ lw_all := lw_g (lw_at lw_m2 41 rfl) rfl
theorem q443 : (Jvm.Cond.classLink "GardenChess$State" (25 : Nat) "[[I") ∈ lw_all := lw_g (lw_at lw_m2 42 rfl) rfl
theorem q445 : (Jvm.Cond.fieldLink "GardenChess$State" (30 : Nat) "GardenChess$State" "day" "I") ∈ lw_all := lw_g (lw_at lw_m2 44 rfl) rfl
theorem q447 : (Jvm.Cond.fieldLink "GardenChess$State" (34 : Nat) "GardenChess$State" "side" "I") ∈ lw_all := lw_g (lw_at lw_m2 46 rfl) rfl
theorem q449 : (Jvm.Cond.fieldLink "GardenChess$State" (37 : Nat) "GardenChess$State" "keeps" "I") ∈ lw_all := lw_g (lw_at lw_m2 48 rfl) rfl
theorem q451 : (Jvm.Cond.fieldLink "GardenChess$State" (15 : Nat) "GardenChess$State" "place" "[I") ∈ lw_all := lw_g (lw_at lw_m2 50 rfl) rfl
theorem q453 : (Jvm.Cond.fieldLink "GardenChess$State" (19 : Nat) "GardenChess$State" "on" "[I") ∈ lw_all := lw_g (lw_at lw_m2 52 rfl) rfl
theorem q455 : (Jvm.Cond.fieldLink "GardenChess$State" (22 : Nat) "GardenChess$State" "bears" "[I") ∈ lw_all := lw_g (lw_at lw_m2 54 rfl) rfl
theorem q457 : (Jvm.Cond.fieldLink "GardenChess$State" (27 : Nat) "GardenChess$State" "rows" "[[I") ∈ lw_all := lw_g (lw_at lw_m2 56 rfl) rfl
theorem q459 : (Jvm.Cond.fieldLink "GardenChess$State" (81 : Nat) "GardenChess$State" "crowns" "I") ∈ lw_all := lw_g (lw_at lw_m2 58 rfl) rfl
theorem q461 : (Jvm.Cond.fieldLink "GardenChess$State" (175 : Nat) "GardenChess$State" "movedTo" "I") ∈ lw_all := lw_g (lw_at lw_m2 60 rfl) rfl
theorem q462 : (Jvm.Cond.fieldLink "GardenChess$State" (182 : Nat) "GardenChess$State" "takenWorth" "I") ∈ lw_all := lw_g (lw_at lw_m2 61 rfl) rfl
theorem q463 : (Jvm.Cond.fieldLink "GardenChess$State" (195 : Nat) "GardenChess$State" "wasCheck" "Z") ∈ lw_all := lw_g (lw_at lw_m2 62 rfl) rfl
theorem q464 : (Jvm.Cond.fieldLink "GardenChess$State" (3 : Nat) "GardenChess$State" "this$0" "LGardenChess;") ∈ lw_all := lw_g (lw_at lw_m2 63 rfl) rfl
theorem q465 : (Jvm.Cond.lays "GardenChess$State" "GardenChess$State" "day" "I") ∈ lw_all := lw_g (lw_at lw_m2 64 rfl) rfl
theorem q466 : (Jvm.Cond.soleField "GardenChess$State" "day") ∈ lw_all := lw_g (lw_at lw_m2 65 rfl) rfl
theorem q467 : (Jvm.Cond.lays "GardenChess$State" "GardenChess$State" "side" "I") ∈ lw_all := lw_g (lw_at lw_m2 66 rfl) rfl
theorem q468 : (Jvm.Cond.soleField "GardenChess$State" "side") ∈ lw_all := lw_g (lw_at lw_m2 67 rfl) rfl
theorem q469 : (Jvm.Cond.lays "GardenChess$State" "GardenChess$State" "keeps" "I") ∈ lw_all := lw_g (lw_at lw_m2 68 rfl) rfl
theorem q470 : (Jvm.Cond.soleField "GardenChess$State" "keeps") ∈ lw_all := lw_g (lw_at lw_m2 69 rfl) rfl
theorem q471 : (Jvm.Cond.laysFinal "GardenChess$State" "GardenChess$State" "place" "[I") ∈ lw_all := lw_g (lw_at lw_m2 70 rfl) rfl
theorem q472 : (Jvm.Cond.soleField "GardenChess$State" "place") ∈ lw_all := lw_g (lw_at lw_m2 71 rfl) rfl
theorem q473 : (Jvm.Cond.laysFinal "GardenChess$State" "GardenChess$State" "on" "[I") ∈ lw_all := lw_g (lw_at lw_m2 72 rfl) rfl
theorem q474 : (Jvm.Cond.soleField "GardenChess$State" "on") ∈ lw_all := lw_g (lw_at lw_m2 73 rfl) rfl
theorem q475 : (Jvm.Cond.laysFinal "GardenChess$State" "GardenChess$State" "bears" "[I") ∈ lw_all := lw_g (lw_at lw_m2 74 rfl) rfl
theorem q476 : (Jvm.Cond.soleField "GardenChess$State" "bears") ∈ lw_all := lw_g (lw_at lw_m2 75 rfl) rfl
theorem q477 : (Jvm.Cond.laysFinal "GardenChess$State" "GardenChess$State" "rows" "[[I") ∈ lw_all := lw_g (lw_at lw_m2 76 rfl) rfl
theorem q478 : (Jvm.Cond.soleField "GardenChess$State" "rows") ∈ lw_all := lw_g (lw_at lw_m2 77 rfl) rfl
theorem q479 : (Jvm.Cond.lays "GardenChess$State" "GardenChess$State" "crowns" "I") ∈ lw_all := lw_g (lw_at lw_m2 78 rfl) rfl
theorem q480 : (Jvm.Cond.soleField "GardenChess$State" "crowns") ∈ lw_all := lw_g (lw_at lw_m2 79 rfl) rfl
theorem q481 : (Jvm.Cond.lays "GardenChess$State" "GardenChess$State" "movedTo" "I") ∈ lw_all := lw_g (lw_at lw_m2 80 rfl) rfl
theorem q482 : (Jvm.Cond.soleField "GardenChess$State" "movedTo") ∈ lw_all := lw_g (lw_at lw_m2 81 rfl) rfl
theorem q483 : (Jvm.Cond.lays "GardenChess$State" "GardenChess$State" "takenWorth" "I") ∈ lw_all := lw_g (lw_at lw_m2 82 rfl) rfl
theorem q484 : (Jvm.Cond.soleField "GardenChess$State" "takenWorth") ∈ lw_all := lw_g (lw_at lw_m2 83 rfl) rfl
theorem q485 : (Jvm.Cond.lays "GardenChess$State" "GardenChess$State" "wasCheck" "Z") ∈ lw_all := lw_g (lw_at lw_m2 84 rfl) rfl
theorem q486 : (Jvm.Cond.soleField "GardenChess$State" "wasCheck") ∈ lw_all := lw_g (lw_at lw_m2 85 rfl) rfl
theorem q487 : (Jvm.Cond.laysFinal "GardenChess$State" "GardenChess$State" "this$0" "LGardenChess;") ∈ lw_all := lw_g (lw_at lw_m2 86 rfl) rfl
theorem q488 : (Jvm.Cond.soleField "GardenChess$State" "this$0") ∈ lw_all := lw_g (lw_at lw_m2 87 rfl) rfl
theorem q489 : (Jvm.Cond.superclass "GardenChess$State" "java/lang/Object") ∈ lw_all := lw_g (lw_at lw_m2 88 rfl) rfl
theorem q492 : (Jvm.Cond.instanceMethod ({ cls := "GardenChess$State", name := "stands", desc := "()V" } : Jvm.MethodName)) ∈ lw_all := lw_g (lw_at lw_m2 91 rfl) rfl
theorem q493 : (Jvm.Cond.selects "GardenChess$State" ({ cls := "GardenChess$State", name := "stands", desc := "()V" } : Jvm.MethodName) ({ cls := "GardenChess$State", name := "stands", desc := "()V" } : Jvm.MethodName)) ∈ lw_all := lw_g (lw_at lw_m2 92 rfl) rfl
theorem q494 : (Jvm.Cond.code ({ cls := "GardenChess$State", name := "stands", desc := "()V" } : Jvm.MethodName) prog_20_method_3_code (2 : Nat) (Option.none : Option Jvm.ClassFile.FieldType)) ∈ lw_all := lw_g (lw_at lw_m2 93 rfl) rfl
theorem q495 : (Jvm.Cond.methodLinkNest "GardenChess$State" (40 : Nat) ({ cls := "GardenChess", name := "men", desc := "()I" } : Jvm.MethodName) "GardenChess") ∈ lw_tbl := lw_at lw_m2 94 rfl
theorem q509 : (Jvm.Cond.methodLinkNest "GardenChess$State" (84 : Nat) ({ cls := "GardenChess", name := "kindOf", desc := "(I)LGardenChess$Kind;" } : Jvm.MethodName) "GardenChess") ∈ lw_tbl := lw_at lw_m2 108 rfl
theorem q538 : (Jvm.Cond.fieldLinkNest "GardenChess$State" (59 : Nat) "GardenChess" "board" "LGardenChess$Board;" "GardenChess") ∈ lw_tbl := lw_at lw_m2 137 rfl
theorem q547 : (Jvm.Cond.fieldLinkNest "GardenChess$State" (185 : Nat) "GardenChess" "moment" "LGardenChess$Moment;" "GardenChess") ∈ lw_tbl := lw_at lw_m2 146 rfl
theorem q551 : (Jvm.Cond.fieldLinkNest "GardenChess$State" (148 : Nat) "GardenChess" "movesAt" "[LGardenChess$Moves;" "GardenChess") ∈ lw_tbl := lw_at lw_m2 150 rfl
theorem q553 : (Jvm.Cond.fieldLinkNest "GardenChess$State" (134 : Nat) "GardenChess" "spare" "LGardenChess$Moves;" "GardenChess") ∈ lw_tbl := lw_at lw_m2 152 rfl
theorem q901 : (Jvm.Cond.fieldLinkNest "GardenChess$State" (95 : Nat) "GardenChess$Kind" "ways" "I" "GardenChess") ∈ lw_tbl := lw_at lw_m4 20 rfl
theorem q904 : (Jvm.Cond.fieldLinkNest "GardenChess$State" (108 : Nat) "GardenChess$Kind" "reach" "I" "GardenChess") ∈ lw_tbl := lw_at lw_m4 23 rfl
theorem q907 : (Jvm.Cond.fieldLinkNest "GardenChess$State" (142 : Nat) "GardenChess$Kind" "worth" "I" "GardenChess") ∈ lw_tbl := lw_at lw_m4 26 rfl
theorem q909 : (Jvm.Cond.fieldLinkNest "GardenChess$State" (88 : Nat) "GardenChess$Kind" "isCrown" "Z" "GardenChess") ∈ lw_tbl := lw_at lw_m4 28 rfl
theorem q986 : (Jvm.Cond.selects "GardenChess$State" ({ cls := "java/lang/Object", name := "getClass", desc := "()Ljava/lang/Class;" } : Jvm.MethodName) ({ cls := "java/lang/Object", name := "getClass", desc := "()Ljava/lang/Class;" } : Jvm.MethodName)) ∈ lw_all := lw_g (lw_at lw_m4 105 rfl) rfl
theorem q1036 : (Jvm.Cond.fieldLinkNest "GardenChess$State" (94 : Nat) "GardenChess$Man" "side" "I" "GardenChess") ∈ lw_tbl := lw_at lw_m4 155 rfl
theorem q1039 : (Jvm.Cond.fieldLinkNest "GardenChess$State" (53 : Nat) "GardenChess$Man" "column" "I" "GardenChess") ∈ lw_tbl := lw_at lw_m4 158 rfl
theorem q1042 : (Jvm.Cond.fieldLinkNest "GardenChess$State" (48 : Nat) "GardenChess$Man" "row" "I" "GardenChess") ∈ lw_tbl := lw_at lw_m4 161 rfl
theorem q1062 : (Jvm.Cond.fieldLinkNest "GardenChess$State" (217 : Nat) "GardenChess$Field" "column" "I" "GardenChess") ∈ lw_tbl := lw_at lw_m4 181 rfl
theorem q1065 : (Jvm.Cond.fieldLinkNest "GardenChess$State" (218 : Nat) "GardenChess$Field" "row" "I" "GardenChess") ∈ lw_tbl := lw_at lw_m4 184 rfl
theorem q1068 : (Jvm.Cond.fieldLinkNest "GardenChess$State" (76 : Nat) "GardenChess$Field" "bears" "I" "GardenChess") ∈ lw_tbl := lw_at lw_m4 187 rfl
theorem q1269 : (Jvm.Cond.instanceMethod ({ cls := "GardenChess$State", name := "begins", desc := "()V" } : Jvm.MethodName)) ∈ lw_all := lw_g (lw_at lw_m5 148 rfl) rfl
theorem q1270 : (Jvm.Cond.selects "GardenChess$State" ({ cls := "GardenChess$State", name := "begins", desc := "()V" } : Jvm.MethodName) ({ cls := "GardenChess$State", name := "begins", desc := "()V" } : Jvm.MethodName)) ∈ lw_all := lw_g (lw_at lw_m5 149 rfl) rfl
theorem q1271 : (Jvm.Cond.code ({ cls := "GardenChess$State", name := "begins", desc := "()V" } : Jvm.MethodName) prog_20_method_2_code (2 : Nat) (Option.none : Option Jvm.ClassFile.FieldType)) ∈ lw_all := lw_g (lw_at lw_m5 150 rfl) rfl
theorem q1272 : (Jvm.Cond.methodLinkNest "GardenChess$State" (44 : Nat) ({ cls := "GardenChess", name := "manOf", desc := "(I)LGardenChess$Man;" } : Jvm.MethodName) "GardenChess") ∈ lw_tbl := lw_at lw_m5 151 rfl
theorem q1273 : (Jvm.Cond.methodLinkNest "GardenChess$State" (56 : Nat) ({ cls := "GardenChess", name := "fields", desc := "()I" } : Jvm.MethodName) "GardenChess") ∈ lw_tbl := lw_at lw_m5 152 rfl
theorem q1277 : (Jvm.Cond.interfaceEntry "GardenChess$State" (68 : Nat)) ∈ lw_tbl := lw_at lw_m5 156 rfl
theorem q1278 : (Jvm.Cond.methodLink "GardenChess$State" (68 : Nat) ({ cls := "java/util/List", name := "get", desc := "(I)Ljava/lang/Object;" } : Jvm.MethodName)) ∈ lw_all := lw_g (lw_at lw_m5 157 rfl) rfl
theorem q1279 : (Jvm.Cond.classLink "GardenChess$State" (74 : Nat) "GardenChess$Field") ∈ lw_all := lw_g (lw_at lw_m5 158 rfl) rfl
theorem q1280 : (Jvm.Cond.methodLink "GardenChess$State" (78 : Nat) ({ cls := "GardenChess$State", name := "stands", desc := "()V" } : Jvm.MethodName)) ∈ lw_all := lw_g (lw_at lw_m5 159 rfl) rfl
theorem q1296 : (Jvm.Cond.instanceMethod ({ cls := "GardenChess$State", name := "isOver", desc := "()Z" } : Jvm.MethodName)) ∈ lw_all := lw_g (lw_at lw_m5 175 rfl) rfl
theorem q1297 : (Jvm.Cond.selects "GardenChess$State" ({ cls := "GardenChess$State", name := "isOver", desc := "()Z" } : Jvm.MethodName) ({ cls := "GardenChess$State", name := "isOver", desc := "()Z" } : Jvm.MethodName)) ∈ lw_all := lw_g (lw_at lw_m5 176 rfl) rfl
theorem q1298 : (Jvm.Cond.code ({ cls := "GardenChess$State", name := "isOver", desc := "()Z" } : Jvm.MethodName) prog_20_method_8_code (1 : Nat) (Option.some Jvm.ClassFile.FieldType.boolean)) ∈ lw_all := lw_g (lw_at lw_m5 177 rfl) rfl
theorem q1299 : (Jvm.Cond.methodLink "GardenChess$State" (138 : Nat) ({ cls := "GardenChess$State", name := "finds", desc := "(ILGardenChess$Moves;)V" } : Jvm.MethodName)) ∈ lw_all := lw_g (lw_at lw_m5 178 rfl) rfl
theorem q1300 : (Jvm.Cond.instanceMethod ({ cls := "GardenChess$State", name := "finds", desc := "(ILGardenChess$Moves;)V" } : Jvm.MethodName)) ∈ lw_all := lw_g (lw_at lw_m5 179 rfl) rfl
theorem q1301 : (Jvm.Cond.selects "GardenChess$State" ({ cls := "GardenChess$State", name := "finds", desc := "(ILGardenChess$Moves;)V" } : Jvm.MethodName) ({ cls := "GardenChess$State", name := "finds", desc := "(ILGardenChess$Moves;)V" } : Jvm.MethodName)) ∈ lw_all := lw_g (lw_at lw_m5 180 rfl) rfl
theorem q1302 : (Jvm.Cond.code ({ cls := "GardenChess$State", name := "finds", desc := "(ILGardenChess$Moves;)V" } : Jvm.MethodName) prog_20_method_6_code (5 : Nat) (Option.none : Option Jvm.ClassFile.FieldType)) ∈ lw_all := lw_g (lw_at lw_m5 181 rfl) rfl
theorem q1303 : (Jvm.Cond.methodLink "GardenChess$State" (126 : Nat) ({ cls := "GardenChess$State", name := "goes", desc := "(II)Z" } : Jvm.MethodName)) ∈ lw_all := lw_g (lw_at lw_m5 182 rfl) rfl
theorem q1304 : (Jvm.Cond.instanceMethod ({ cls := "GardenChess$State", name := "goes", desc := "(II)Z" } : Jvm.MethodName)) ∈ lw_all := lw_g (lw_at lw_m5 183 rfl) rfl
theorem q1305 : (Jvm.Cond.selects "GardenChess$State" ({ cls := "GardenChess$State", name := "goes", desc := "(II)Z" } : Jvm.MethodName) ({ cls := "GardenChess$State", name := "goes", desc := "(II)Z" } : Jvm.MethodName)) ∈ lw_all := lw_g (lw_at lw_m5 184 rfl) rfl
theorem q1306 : (Jvm.Cond.code ({ cls := "GardenChess$State", name := "goes", desc := "(II)Z" } : Jvm.MethodName) prog_20_method_5_code (12 : Nat) (Option.some Jvm.ClassFile.FieldType.boolean)) ∈ lw_all := lw_g (lw_at lw_m5 185 rfl) rfl
theorem q1307 : (Jvm.Cond.methodLink "GardenChess$State" (98 : Nat) ({ cls := "java/lang/Math", name := "abs", desc := "(I)I" } : Jvm.MethodName)) ∈ lw_all := lw_g (lw_at lw_m5 186 rfl) rfl
theorem q1310 : (Jvm.Cond.methodLink "GardenChess$State" (104 : Nat) ({ cls := "java/lang/Math", name := "max", desc := "(II)I" } : Jvm.MethodName)) ∈ lw_all := lw_g (lw_at lw_m5 189 rfl) rfl
theorem q1311 : (Jvm.Cond.methodLink "GardenChess$State" (111 : Nat) ({ cls := "java/lang/Integer", name := "signum", desc := "(I)I" } : Jvm.MethodName)) ∈ lw_all := lw_g (lw_at lw_m5 190 rfl) rfl
theorem q1314 : (Jvm.Cond.methodLink "GardenChess$State" (130 : Nat) ({ cls := "GardenChess$Moves", name := "add", desc := "(II)V" } : Jvm.MethodName)) ∈ lw_all := lw_g (lw_at lw_m5 193 rfl) rfl
theorem q1319 : (Jvm.Cond.instanceMethod ({ cls := "GardenChess$State", name := "left", desc := "(I)I" } : Jvm.MethodName)) ∈ lw_all := lw_g (lw_at lw_m5 198 rfl) rfl
theorem q1320 : (Jvm.Cond.selects "GardenChess$State" ({ cls := "GardenChess$State", name := "left", desc := "(I)I" } : Jvm.MethodName) ({ cls := "GardenChess$State", name := "left", desc := "(I)I" } : Jvm.MethodName)) ∈ lw_all := lw_g (lw_at lw_m5 199 rfl) rfl
theorem q1321 : (Jvm.Cond.code ({ cls := "GardenChess$State", name := "left", desc := "(I)I" } : Jvm.MethodName) prog_20_method_22_code (4 : Nat) (Option.some Jvm.ClassFile.FieldType.int)) ∈ lw_all := lw_g (lw_at lw_m5 200 rfl) rfl
theorem q1323 : (Jvm.Cond.instanceMethod ({ cls := "GardenChess$State", name := "allBears", desc := "()I" } : Jvm.MethodName)) ∈ lw_all := lw_g (lw_at lw_m5 202 rfl) rfl
theorem q1324 : (Jvm.Cond.selects "GardenChess$State" ({ cls := "GardenChess$State", name := "allBears", desc := "()I" } : Jvm.MethodName) ({ cls := "GardenChess$State", name := "allBears", desc := "()I" } : Jvm.MethodName)) ∈ lw_all := lw_g (lw_at lw_m5 203 rfl) rfl
theorem q1325 : (Jvm.Cond.code ({ cls := "GardenChess$State", name := "allBears", desc := "()I" } : Jvm.MethodName) prog_20_method_21_code (3 : Nat) (Option.some Jvm.ClassFile.FieldType.int)) ∈ lw_all := lw_g (lw_at lw_m5 204 rfl) rfl
theorem q1364 : (Jvm.Cond.instanceMethod ({ cls := "GardenChess$State", name := "many", desc := "(I)I" } : Jvm.MethodName)) ∈ lw_all := lw_g (lw_at lw_m6 3 rfl) rfl
theorem q1365 : (Jvm.Cond.selects "GardenChess$State" ({ cls := "GardenChess$State", name := "many", desc := "(I)I" } : Jvm.MethodName) ({ cls := "GardenChess$State", name := "many", desc := "(I)I" } : Jvm.MethodName)) ∈ lw_all := lw_g (lw_at lw_m6 4 rfl) rfl
theorem q1366 : (Jvm.Cond.code ({ cls := "GardenChess$State", name := "many", desc := "(I)I" } : Jvm.MethodName) prog_20_method_7_code (4 : Nat) (Option.some Jvm.ClassFile.FieldType.int)) ∈ lw_all := lw_g (lw_at lw_m6 5 rfl) rfl
theorem q1394 : (Jvm.Cond.instanceMethod ({ cls := "GardenChess$State", name := "copy", desc := "(LGardenChess$State;)LGardenChess$State;" } : Jvm.MethodName)) ∈ lw_all := lw_g (lw_at lw_m6 33 rfl) rfl
theorem q1395 : (Jvm.Cond.selects "GardenChess$State" ({ cls := "GardenChess$State", name := "copy", desc := "(LGardenChess$State;)LGardenChess$State;" } : Jvm.MethodName) ({ cls := "GardenChess$State", name := "copy", desc := "(LGardenChess$State;)LGardenChess$State;" } : Jvm.MethodName)) ∈ lw_all := lw_g (lw_at lw_m6 34 rfl) rfl
theorem q1396 : (Jvm.Cond.code ({ cls := "GardenChess$State", name := "copy", desc := "(LGardenChess$State;)LGardenChess$State;" } : Jvm.MethodName) prog_20_method_4_code (4 : Nat) (Option.some (Jvm.ClassFile.FieldType.object "GardenChess$State"))) ∈ lw_all := lw_g (lw_at lw_m6 35 rfl) rfl
theorem q1398 : (Jvm.Cond.instanceMethod ({ cls := "GardenChess$State", name := "moves", desc := "(II)I" } : Jvm.MethodName)) ∈ lw_all := lw_g (lw_at lw_m6 37 rfl) rfl
theorem q1399 : (Jvm.Cond.selects "GardenChess$State" ({ cls := "GardenChess$State", name := "moves", desc := "(II)I" } : Jvm.MethodName) ({ cls := "GardenChess$State", name := "moves", desc := "(II)I" } : Jvm.MethodName)) ∈ lw_all := lw_g (lw_at lw_m6 38 rfl) rfl
theorem q1400 : (Jvm.Cond.code ({ cls := "GardenChess$State", name := "moves", desc := "(II)I" } : Jvm.MethodName) prog_20_method_9_code (4 : Nat) (Option.some Jvm.ClassFile.FieldType.int)) ∈ lw_all := lw_g (lw_at lw_m6 39 rfl) rfl
theorem q1402 : (Jvm.Cond.instanceMethod ({ cls := "GardenChess$State", name := "isCheck", desc := "()Z" } : Jvm.MethodName)) ∈ lw_all := lw_g (lw_at lw_m6 41 rfl) rfl
theorem q1403 : (Jvm.Cond.selects "GardenChess$State" ({ cls := "GardenChess$State", name := "isCheck", desc := "()Z" } : Jvm.MethodName) ({ cls := "GardenChess$State", name := "isCheck", desc := "()Z" } : Jvm.MethodName)) ∈ lw_all := lw_g (lw_at lw_m6 42 rfl) rfl
theorem q1404 : (Jvm.Cond.code ({ cls := "GardenChess$State", name := "isCheck", desc := "()Z" } : Jvm.MethodName) prog_20_method_11_code (3 : Nat) (Option.some Jvm.ClassFile.FieldType.boolean)) ∈ lw_all := lw_g (lw_at lw_m6 43 rfl) rfl
theorem q1414 : (Jvm.Cond.instanceMethod ({ cls := "GardenChess$State", name := "balance", desc := "(I)I" } : Jvm.MethodName)) ∈ lw_all := lw_g (lw_at lw_m6 53 rfl) rfl
theorem q1415 : (Jvm.Cond.selects "GardenChess$State" ({ cls := "GardenChess$State", name := "balance", desc := "(I)I" } : Jvm.MethodName) ({ cls := "GardenChess$State", name := "balance", desc := "(I)I" } : Jvm.MethodName)) ∈ lw_all := lw_g (lw_at lw_m6 54 rfl) rfl
theorem q1416 : (Jvm.Cond.code ({ cls := "GardenChess$State", name := "balance", desc := "(I)I" } : Jvm.MethodName) prog_20_method_12_code (4 : Nat) (Option.some Jvm.ClassFile.FieldType.int)) ∈ lw_all := lw_g (lw_at lw_m6 55 rfl) rfl
theorem q1423 : (Jvm.Cond.instanceMethod ({ cls := "GardenChess$State", name := "value", desc := "(I)I" } : Jvm.MethodName)) ∈ lw_all := lw_g (lw_at lw_m6 62 rfl) rfl
theorem q1424 : (Jvm.Cond.selects "GardenChess$State" ({ cls := "GardenChess$State", name := "value", desc := "(I)I" } : Jvm.MethodName) ({ cls := "GardenChess$State", name := "value", desc := "(I)I" } : Jvm.MethodName)) ∈ lw_all := lw_g (lw_at lw_m6 63 rfl) rfl
theorem q1425 : (Jvm.Cond.code ({ cls := "GardenChess$State", name := "value", desc := "(I)I" } : Jvm.MethodName) prog_20_method_13_code (5 : Nat) (Option.some Jvm.ClassFile.FieldType.int)) ∈ lw_all := lw_g (lw_at lw_m6 64 rfl) rfl
theorem q1426 : (Jvm.Cond.methodLink "GardenChess$State" (145 : Nat) ({ cls := "GardenChess$State", name := "balance", desc := "(I)I" } : Jvm.MethodName)) ∈ lw_all := lw_g (lw_at lw_m6 65 rfl) rfl
theorem q1427 : (Jvm.Cond.constant "GardenChess$State" (152 : Nat) (-2147483648 : Int32)) ∈ lw_all := lw_g (lw_at lw_m6 66 rfl) rfl
theorem q1428 : (Jvm.Cond.methodLink "GardenChess$State" (153 : Nat) ({ cls := "GardenChess$State", name := "behind", desc := "(LGardenChess$Moves;II)I" } : Jvm.MethodName)) ∈ lw_all := lw_g (lw_at lw_m6 67 rfl) rfl
theorem q1429 : (Jvm.Cond.privateMethod ({ cls := "GardenChess$State", name := "behind", desc := "(LGardenChess$Moves;II)I" } : Jvm.MethodName)) ∈ lw_tbl := lw_at lw_m6 68 rfl
theorem q1430 : (Jvm.Cond.instanceMethod ({ cls := "GardenChess$State", name := "behind", desc := "(LGardenChess$Moves;II)I" } : Jvm.MethodName)) ∈ lw_all := lw_g (lw_at lw_m6 69 rfl) rfl
theorem q1431 : (Jvm.Cond.code ({ cls := "GardenChess$State", name := "behind", desc := "(LGardenChess$Moves;II)I" } : Jvm.MethodName) prog_20_method_14_code (8 : Nat) (Option.some Jvm.ClassFile.FieldType.int)) ∈ lw_all := lw_g (lw_at lw_m6 70 rfl) rfl
theorem q1432 : (Jvm.Cond.methodLink "GardenChess$State" (161 : Nat) ({ cls := "GardenChess$State", name := "moves", desc := "(II)I" } : Jvm.MethodName)) ∈ lw_all := lw_g (lw_at lw_m6 71 rfl) rfl
theorem q1433 : (Jvm.Cond.methodLink "GardenChess$State" (164 : Nat) ({ cls := "GardenChess$State", name := "value", desc := "(I)I" } : Jvm.MethodName)) ∈ lw_all := lw_g (lw_at lw_m6 72 rfl) rfl
theorem q1434 : (Jvm.Cond.methodLink "GardenChess$State" (167 : Nat) ({ cls := "GardenChess$State", name := "movesBack", desc := "(III)V" } : Jvm.MethodName)) ∈ lw_all := lw_g (lw_at lw_m6 73 rfl) rfl
theorem q1435 : (Jvm.Cond.instanceMethod ({ cls := "GardenChess$State", name := "movesBack", desc := "(III)V" } : Jvm.MethodName)) ∈ lw_all := lw_g (lw_at lw_m6 74 rfl) rfl
theorem q1436 : (Jvm.Cond.selects "GardenChess$State" ({ cls := "GardenChess$State", name := "movesBack", desc := "(III)V" } : Jvm.MethodName) ({ cls := "GardenChess$State", name := "movesBack", desc := "(III)V" } : Jvm.MethodName)) ∈ lw_all := lw_g (lw_at lw_m6 75 rfl) rfl
theorem q1437 : (Jvm.Cond.code ({ cls := "GardenChess$State", name := "movesBack", desc := "(III)V" } : Jvm.MethodName) prog_20_method_10_code (5 : Nat) (Option.none : Option Jvm.ClassFile.FieldType)) ∈ lw_all := lw_g (lw_at lw_m6 76 rfl) rfl
theorem q1443 : (Jvm.Cond.instanceMethod ({ cls := "GardenChess$State", name := "best", desc := "(I)I" } : Jvm.MethodName)) ∈ lw_all := lw_g (lw_at lw_m6 82 rfl) rfl
theorem q1444 : (Jvm.Cond.selects "GardenChess$State" ({ cls := "GardenChess$State", name := "best", desc := "(I)I" } : Jvm.MethodName) ({ cls := "GardenChess$State", name := "best", desc := "(I)I" } : Jvm.MethodName)) ∈ lw_all := lw_g (lw_at lw_m6 83 rfl) rfl
theorem q1445 : (Jvm.Cond.code ({ cls := "GardenChess$State", name := "best", desc := "(I)I" } : Jvm.MethodName) prog_20_method_15_code (7 : Nat) (Option.some Jvm.ClassFile.FieldType.int)) ∈ lw_all := lw_g (lw_at lw_m6 84 rfl) rfl
theorem q1446 : (Jvm.Cond.methodLink "GardenChess$State" (171 : Nat) ({ cls := "GardenChess$State", name := "isOver", desc := "()Z" } : Jvm.MethodName)) ∈ lw_all := lw_g (lw_at lw_m6 85 rfl) rfl
theorem q1470 : (Jvm.Cond.instanceMethod ({ cls := "GardenChess$State", name := "days", desc := "(I)LGardenChess$State;" } : Jvm.MethodName)) ∈ lw_all := lw_g (lw_at lw_m6 109 rfl) rfl
theorem q1471 : (Jvm.Cond.selects "GardenChess$State" ({ cls := "GardenChess$State", name := "days", desc := "(I)LGardenChess$State;" } : Jvm.MethodName) ({ cls := "GardenChess$State", name := "days", desc := "(I)LGardenChess$State;" } : Jvm.MethodName)) ∈ lw_all := lw_g (lw_at lw_m6 110 rfl) rfl
theorem q1472 : (Jvm.Cond.code ({ cls := "GardenChess$State", name := "days", desc := "(I)LGardenChess$State;" } : Jvm.MethodName) prog_20_method_20_code (2 : Nat) (Option.some (Jvm.ClassFile.FieldType.object "GardenChess$State"))) ∈ lw_all := lw_g (lw_at lw_m6 111 rfl) rfl
theorem q1473 : (Jvm.Cond.methodLink "GardenChess$State" (237 : Nat) ({ cls := "GardenChess$State", name := "days", desc := "(III)I" } : Jvm.MethodName)) ∈ lw_all := lw_g (lw_at lw_m6 112 rfl) rfl
theorem q1474 : (Jvm.Cond.instanceMethod ({ cls := "GardenChess$State", name := "days", desc := "(III)I" } : Jvm.MethodName)) ∈ lw_all := lw_g (lw_at lw_m6 113 rfl) rfl
theorem q1475 : (Jvm.Cond.selects "GardenChess$State" ({ cls := "GardenChess$State", name := "days", desc := "(III)I" } : Jvm.MethodName) ({ cls := "GardenChess$State", name := "days", desc := "(III)I" } : Jvm.MethodName)) ∈ lw_all := lw_g (lw_at lw_m6 114 rfl) rfl
theorem q1476 : (Jvm.Cond.code ({ cls := "GardenChess$State", name := "days", desc := "(III)I" } : Jvm.MethodName) prog_20_method_19_code (7 : Nat) (Option.some Jvm.ClassFile.FieldType.int)) ∈ lw_all := lw_g (lw_at lw_m6 115 rfl) rfl
theorem q1477 : (Jvm.Cond.methodLink "GardenChess$State" (228 : Nat) ({ cls := "GardenChess$State", name := "best", desc := "(I)I" } : Jvm.MethodName)) ∈ lw_all := lw_g (lw_at lw_m6 116 rfl) rfl
theorem q1478 : (Jvm.Cond.methodLink "GardenChess$State" (231 : Nat) ({ cls := "GardenChess$State", name := "passes", desc := "(I)I" } : Jvm.MethodName)) ∈ lw_all := lw_g (lw_at lw_m6 117 rfl) rfl
theorem q1479 : (Jvm.Cond.instanceMethod ({ cls := "GardenChess$State", name := "passes", desc := "(I)I" } : Jvm.MethodName)) ∈ lw_all := lw_g (lw_at lw_m6 118 rfl) rfl
theorem q1480 : (Jvm.Cond.selects "GardenChess$State" ({ cls := "GardenChess$State", name := "passes", desc := "(I)I" } : Jvm.MethodName) ({ cls := "GardenChess$State", name := "passes", desc := "(I)I" } : Jvm.MethodName)) ∈ lw_all := lw_g (lw_at lw_m6 119 rfl) rfl
theorem q1481 : (Jvm.Cond.code ({ cls := "GardenChess$State", name := "passes", desc := "(I)I" } : Jvm.MethodName) prog_20_method_18_code (5 : Nat) (Option.some Jvm.ClassFile.FieldType.int)) ∈ lw_all := lw_g (lw_at lw_m6 120 rfl) rfl
theorem q1482 : (Jvm.Cond.methodLink "GardenChess$State" (211 : Nat) ({ cls := "GardenChess$State", name := "isCheck", desc := "()Z" } : Jvm.MethodName)) ∈ lw_all := lw_g (lw_at lw_m6 121 rfl) rfl
theorem q1483 : (Jvm.Cond.methodLink "GardenChess$State" (214 : Nat) ({ cls := "GardenChess$State", name := "tells", desc := "(II)V" } : Jvm.MethodName)) ∈ lw_all := lw_g (lw_at lw_m6 122 rfl) rfl
theorem q1484 : (Jvm.Cond.privateMethod ({ cls := "GardenChess$State", name := "tells", desc := "(II)V" } : Jvm.MethodName)) ∈ lw_tbl := lw_at lw_m6 123 rfl
theorem q1485 : (Jvm.Cond.instanceMethod ({ cls := "GardenChess$State", name := "tells", desc := "(II)V" } : Jvm.MethodName)) ∈ lw_all := lw_g (lw_at lw_m6 124 rfl) rfl
theorem q1486 : (Jvm.Cond.code ({ cls := "GardenChess$State", name := "tells", desc := "(II)V" } : Jvm.MethodName) prog_20_method_16_code (5 : Nat) (Option.none : Option Jvm.ClassFile.FieldType)) ∈ lw_all := lw_g (lw_at lw_m6 125 rfl) rfl
theorem q1487 : (Jvm.Cond.methodLink "GardenChess$State" (219 : Nat) ({ cls := "GardenChess$State", name := "harmAt", desc := "(II)I" } : Jvm.MethodName)) ∈ lw_all := lw_g (lw_at lw_m6 126 rfl) rfl
theorem q1488 : (Jvm.Cond.instanceMethod ({ cls := "GardenChess$State", name := "harmAt", desc := "(II)I" } : Jvm.MethodName)) ∈ lw_all := lw_g (lw_at lw_m6 127 rfl) rfl
theorem q1489 : (Jvm.Cond.selects "GardenChess$State" ({ cls := "GardenChess$State", name := "harmAt", desc := "(II)I" } : Jvm.MethodName) ({ cls := "GardenChess$State", name := "harmAt", desc := "(II)I" } : Jvm.MethodName)) ∈ lw_all := lw_g (lw_at lw_m6 128 rfl) rfl
theorem q1490 : (Jvm.Cond.code ({ cls := "GardenChess$State", name := "harmAt", desc := "(II)I" } : Jvm.MethodName) prog_20_method_17_code (3 : Nat) (Option.some Jvm.ClassFile.FieldType.int)) ∈ lw_all := lw_g (lw_at lw_m6 129 rfl) rfl
theorem q1491 : (Jvm.Cond.methodLinkNest "GardenChess$State" (198 : Nat) ({ cls := "GardenChess", name := "off", desc := "(IIII)I" } : Jvm.MethodName) "GardenChess") ∈ lw_tbl := lw_at lw_m6 130 rfl
theorem q1496 : (Jvm.Cond.methodLink "GardenChess$State" (202 : Nat) ({ cls := "GardenChess$Value", name := "at", desc := "(LGardenChess$Moment;)J" } : Jvm.MethodName)) ∈ lw_all := lw_g (lw_at lw_m6 135 rfl) rfl
theorem q1556 : (Jvm.Cond.methodLink "GardenChess$State" (208 : Nat) ({ cls := "java/lang/Math", name := "max", desc := "(JJ)J" } : Jvm.MethodName)) ∈ lw_all := lw_g (lw_at lw_m6 195 rfl) rfl
theorem q1557 : (Jvm.Cond.methodLink "GardenChess$State" (225 : Nat) ({ cls := "java/lang/Math", name := "min", desc := "(II)I" } : Jvm.MethodName)) ∈ lw_all := lw_g (lw_at lw_m6 196 rfl) rfl
theorem q2806 : (Jvm.Cond.castable "GardenChess$State" "java/lang/Object") ∈ lw_tbl := lw_at lw_m12 5 rfl
theorem q177 : (Jvm.Cond.initialized "GardenChessModel") ∈ lw_all := lw_g (lw_at lw_m1 16 rfl) rfl
theorem q988 : (Jvm.Cond.selects "GardenChessModel" ({ cls := "java/lang/Object", name := "getClass", desc := "()Ljava/lang/Class;" } : Jvm.MethodName) ({ cls := "java/lang/Object", name := "getClass", desc := "()Ljava/lang/Class;" } : Jvm.MethodName)) ∈ lw_all := lw_g (lw_at lw_m4 107 rfl) rfl
theorem q1807 : (Jvm.Cond.instantiable "GardenChessModel" (122 : Nat)) ∈ lw_all := lw_g (lw_at lw_m7 206 rfl) rfl
theorem q1809 : (Jvm.Cond.instanceMethod ({ cls := "GardenChessModel", name := "<init>", desc := "()V" } : Jvm.MethodName)) ∈ lw_all := lw_g (lw_at lw_m7 208 rfl) rfl
theorem q1810 : (Jvm.Cond.code ({ cls := "GardenChessModel", name := "<init>", desc := "()V" } : Jvm.MethodName) prog_25_method_1_code (1 : Nat) (Option.none : Option Jvm.ClassFile.FieldType)) ∈ lw_all := lw_g (lw_at lw_m7 209 rfl) rfl
theorem q1811 : (Jvm.Cond.methodLink "GardenChessModel" (1 : Nat) ({ cls := "java/lang/Object", name := "<init>", desc := "()V" } : Jvm.MethodName)) ∈ lw_all := lw_g (lw_at lw_m7 210 rfl) rfl
theorem q1812 : (Jvm.Cond.fieldLink "GardenChessModel" (7 : Nat) "GardenChessModel" "tape" "[I") ∈ lw_all := lw_g (lw_at lw_m7 211 rfl) rfl
theorem q1813 : (Jvm.Cond.fieldLink "GardenChessModel" (275 : Nat) "GardenChessModel" "taped" "I") ∈ lw_all := lw_g (lw_at lw_m7 212 rfl) rfl
theorem q1814 : (Jvm.Cond.fieldLink "GardenChessModel" (284 : Nat) "GardenChessModel" "at" "I") ∈ lw_all := lw_g (lw_at lw_m7 213 rfl) rfl
theorem q1815 : (Jvm.Cond.fieldLink "GardenChessModel" (287 : Nat) "GardenChessModel" "end" "I") ∈ lw_all := lw_g (lw_at lw_m7 214 rfl) rfl
theorem q1816 : (Jvm.Cond.fieldLink "GardenChessModel" (298 : Nat) "GardenChessModel" "ended" "I") ∈ lw_all := lw_g (lw_at lw_m7 215 rfl) rfl
theorem q1817 : (Jvm.Cond.fieldLink "GardenChessModel" (278 : Nat) "GardenChessModel" "bad" "I") ∈ lw_all := lw_g (lw_at lw_m7 216 rfl) rfl
theorem q1818 : (Jvm.Cond.fieldLink "GardenChessModel" (281 : Nat) "GardenChessModel" "badPlace" "I") ∈ lw_all := lw_g (lw_at lw_m7 217 rfl) rfl
theorem q1819 : (Jvm.Cond.fieldLink "GardenChessModel" (418 : Nat) "GardenChessModel" "fault" "I") ∈ lw_all := lw_g (lw_at lw_m7 218 rfl) rfl
theorem q1820 : (Jvm.Cond.fieldLink "GardenChessModel" (13 : Nat) "GardenChessModel" "faultPlace" "I") ∈ lw_all := lw_g (lw_at lw_m7 219 rfl) rfl
theorem q1821 : (Jvm.Cond.fieldLink "GardenChessModel" (17 : Nat) "GardenChessModel" "refused" "[I") ∈ lw_all := lw_g (lw_at lw_m7 220 rfl) rfl
theorem q1822 : (Jvm.Cond.fieldLink "GardenChessModel" (318 : Nat) "GardenChessModel" "numberPlace" "I") ∈ lw_all := lw_g (lw_at lw_m7 221 rfl) rfl
theorem q1823 : (Jvm.Cond.fieldLink "GardenChessModel" (20 : Nat) "GardenChessModel" "boardWord" "[C") ∈ lw_all := lw_g (lw_at lw_m7 222 rfl) rfl
theorem q1824 : (Jvm.Cond.fieldLink "GardenChessModel" (24 : Nat) "GardenChessModel" "byWord" "[C") ∈ lw_all := lw_g (lw_at lw_m7 223 rfl) rfl
theorem q1825 : (Jvm.Cond.fieldLink "GardenChessModel" (27 : Nat) "GardenChessModel" "whiteWord" "[C") ∈ lw_all := lw_g (lw_at lw_m7 224 rfl) rfl
theorem q1826 : (Jvm.Cond.fieldLink "GardenChessModel" (30 : Nat) "GardenChessModel" "blackWord" "[C") ∈ lw_all := lw_g (lw_at lw_m7 225 rfl) rfl
theorem q1827 : (Jvm.Cond.fieldLink "GardenChessModel" (33 : Nat) "GardenChessModel" "kindWord" "[C") ∈ lw_all := lw_g (lw_at lw_m7 226 rfl) rfl
theorem q1828 : (Jvm.Cond.fieldLink "GardenChessModel" (36 : Nat) "GardenChessModel" "waysWord" "[C") ∈ lw_all := lw_g (lw_at lw_m7 227 rfl) rfl
theorem q1829 : (Jvm.Cond.fieldLink "GardenChessModel" (39 : Nat) "GardenChessModel" "reachWord" "[C") ∈ lw_all := lw_g (lw_at lw_m7 228 rfl) rfl
theorem q1830 : (Jvm.Cond.fieldLink "GardenChessModel" (42 : Nat) "GardenChessModel" "worthWord" "[C") ∈ lw_all := lw_g (lw_at lw_m7 229 rfl) rfl
theorem q1831 : (Jvm.Cond.fieldLink "GardenChessModel" (45 : Nat) "GardenChessModel" "crownWord" "[C") ∈ lw_all := lw_g (lw_at lw_m7 230 rfl) rfl
theorem q1832 : (Jvm.Cond.fieldLink "GardenChessModel" (48 : Nat) "GardenChessModel" "manWord" "[C") ∈ lw_all := lw_g (lw_at lw_m7 231 rfl) rfl
theorem q1833 : (Jvm.Cond.fieldLink "GardenChessModel" (51 : Nat) "GardenChessModel" "isWord" "[C") ∈ lw_all := lw_g (lw_at lw_m7 232 rfl) rfl
theorem q1834 : (Jvm.Cond.fieldLink "GardenChessModel" (54 : Nat) "GardenChessModel" "ofWord" "[C") ∈ lw_all := lw_g (lw_at lw_m7 233 rfl) rfl
theorem q1835 : (Jvm.Cond.fieldLink "GardenChessModel" (57 : Nat) "GardenChessModel" "atWord" "[C") ∈ lw_all := lw_g (lw_at lw_m7 234 rfl) rfl
theorem q1836 : (Jvm.Cond.fieldLink "GardenChessModel" (60 : Nat) "GardenChessModel" "fieldWord" "[C") ∈ lw_all := lw_g (lw_at lw_m7 235 rfl) rfl
theorem q1837 : (Jvm.Cond.fieldLink "GardenChessModel" (63 : Nat) "GardenChessModel" "bearsWord" "[C") ∈ lw_all := lw_g (lw_at lw_m7 236 rfl) rfl
theorem q1838 : (Jvm.Cond.fieldLink "GardenChessModel" (66 : Nat) "GardenChessModel" "harmWord" "[C") ∈ lw_all := lw_g (lw_at lw_m7 237 rfl) rfl
theorem q1839 : (Jvm.Cond.fieldLink "GardenChessModel" (69 : Nat) "GardenChessModel" "growsWord" "[C") ∈ lw_all := lw_g (lw_at lw_m7 238 rfl) rfl
theorem q1840 : (Jvm.Cond.fieldLink "GardenChessModel" (72 : Nat) "GardenChessModel" "sleepyWord" "[C") ∈ lw_all := lw_g (lw_at lw_m7 239 rfl) rfl
theorem q1841 : (Jvm.Cond.fieldLink "GardenChessModel" (75 : Nat) "GardenChessModel" "takenWord" "[C") ∈ lw_all := lw_g (lw_at lw_m8 0 rfl) rfl
theorem q1842 : (Jvm.Cond.fieldLink "GardenChessModel" (78 : Nat) "GardenChessModel" "checkWord" "[C") ∈ lw_all := lw_g (lw_at lw_m8 1 rfl) rfl
theorem q1843 : (Jvm.Cond.fieldLink "GardenChessModel" (81 : Nat) "GardenChessModel" "offWord" "[C") ∈ lw_all := lw_g (lw_at lw_m8 2 rfl) rfl
theorem q1844 : (Jvm.Cond.fieldLink "GardenChessModel" (84 : Nat) "GardenChessModel" "dayWord" "[C") ∈ lw_all := lw_g (lw_at lw_m8 3 rfl) rfl
theorem q1845 : (Jvm.Cond.fieldLink "GardenChessModel" (87 : Nat) "GardenChessModel" "numberWord" "[C") ∈ lw_all := lw_g (lw_at lw_m8 4 rfl) rfl
theorem q1846 : (Jvm.Cond.fieldLink "GardenChessModel" (90 : Nat) "GardenChessModel" "columnWord" "[C") ∈ lw_all := lw_g (lw_at lw_m8 5 rfl) rfl
theorem q1847 : (Jvm.Cond.fieldLink "GardenChessModel" (93 : Nat) "GardenChessModel" "rowWord" "[C") ∈ lw_all := lw_g (lw_at lw_m8 6 rfl) rfl
theorem q1848 : (Jvm.Cond.fieldLink "GardenChessModel" (96 : Nat) "GardenChessModel" "sideWord" "[C") ∈ lw_all := lw_g (lw_at lw_m8 7 rfl) rfl
theorem q1849 : (Jvm.Cond.fieldLink "GardenChessModel" (99 : Nat) "GardenChessModel" "movesWord" "[C") ∈ lw_all := lw_g (lw_at lw_m8 8 rfl) rfl
theorem q1850 : (Jvm.Cond.fieldLink "GardenChessModel" (102 : Nat) "GardenChessModel" "orWord" "[C") ∈ lw_all := lw_g (lw_at lw_m8 9 rfl) rfl
theorem q1851 : (Jvm.Cond.fieldLink "GardenChessModel" (105 : Nat) "GardenChessModel" "andWord" "[C") ∈ lw_all := lw_g (lw_at lw_m8 10 rfl) rfl
theorem q1852 : (Jvm.Cond.fieldLink "GardenChessModel" (108 : Nat) "GardenChessModel" "notWord" "[C") ∈ lw_all := lw_g (lw_at lw_m8 11 rfl) rfl
theorem q1853 : (Jvm.Cond.fieldLink "GardenChessModel" (111 : Nat) "GardenChessModel" "allWord" "[C") ∈ lw_all := lw_g (lw_at lw_m8 12 rfl) rfl
theorem q1854 : (Jvm.Cond.fieldLink "GardenChessModel" (114 : Nat) "GardenChessModel" "minWord" "[C") ∈ lw_all := lw_g (lw_at lw_m8 13 rfl) rfl
theorem q1855 : (Jvm.Cond.fieldLink "GardenChessModel" (117 : Nat) "GardenChessModel" "maxWord" "[C") ∈ lw_all := lw_g (lw_at lw_m8 14 rfl) rfl
theorem q1856 : (Jvm.Cond.fieldLink "GardenChessModel" (329 : Nat) "GardenChessModel" "namePlace" "I") ∈ lw_all := lw_g (lw_at lw_m8 15 rfl) rfl
theorem q1857 : (Jvm.Cond.fieldLink "GardenChessModel" (120 : Nat) "GardenChessModel" "many" "[I") ∈ lw_all := lw_g (lw_at lw_m8 16 rfl) rfl
theorem q1858 : (Jvm.Cond.fieldLink "GardenChessModel" (123 : Nat) "GardenChessModel" "names" "[J") ∈ lw_all := lw_g (lw_at lw_m8 17 rfl) rfl
theorem q1859 : (Jvm.Cond.fieldLink "GardenChessModel" (127 : Nat) "GardenChessModel" "side" "[I") ∈ lw_all := lw_g (lw_at lw_m8 18 rfl) rfl
theorem q1860 : (Jvm.Cond.fieldLink "GardenChessModel" (130 : Nat) "GardenChessModel" "kinds" "[I") ∈ lw_all := lw_g (lw_at lw_m8 19 rfl) rfl
theorem q1861 : (Jvm.Cond.fieldLink "GardenChessModel" (133 : Nat) "GardenChessModel" "men" "[I") ∈ lw_all := lw_g (lw_at lw_m8 20 rfl) rfl
theorem q1862 : (Jvm.Cond.fieldLink "GardenChessModel" (136 : Nat) "GardenChessModel" "begins" "[I") ∈ lw_all := lw_g (lw_at lw_m8 21 rfl) rfl
theorem q1863 : (Jvm.Cond.fieldLink "GardenChessModel" (139 : Nat) "GardenChessModel" "fields" "[I") ∈ lw_all := lw_g (lw_at lw_m8 22 rfl) rfl
theorem q1864 : (Jvm.Cond.fieldLink "GardenChessModel" (142 : Nat) "GardenChessModel" "settings" "[I") ∈ lw_all := lw_g (lw_at lw_m8 23 rfl) rfl
theorem q1865 : (Jvm.Cond.fieldLink "GardenChessModel" (145 : Nat) "GardenChessModel" "sumFrom" "[I") ∈ lw_all := lw_g (lw_at lw_m8 24 rfl) rfl
theorem q1866 : (Jvm.Cond.fieldLink "GardenChessModel" (148 : Nat) "GardenChessModel" "sumEnd" "[I") ∈ lw_all := lw_g (lw_at lw_m8 25 rfl) rfl
theorem q1867 : (Jvm.Cond.fieldLink "GardenChessModel" (151 : Nat) "GardenChessModel" "codes" "[I") ∈ lw_all := lw_g (lw_at lw_m8 26 rfl) rfl
theorem q1868 : (Jvm.Cond.fieldLink "GardenChessModel" (394 : Nat) "GardenChessModel" "coded" "I") ∈ lw_all := lw_g (lw_at lw_m8 27 rfl) rfl
theorem q1869 : (Jvm.Cond.fieldLink "GardenChessModel" (397 : Nat) "GardenChessModel" "statements" "I") ∈ lw_all := lw_g (lw_at lw_m8 28 rfl) rfl
theorem q1870 : (Jvm.Cond.fieldLink "GardenChessModel" (424 : Nat) "GardenChessModel" "isBoard" "Z") ∈ lw_all := lw_g (lw_at lw_m8 29 rfl) rfl
theorem q1871 : (Jvm.Cond.fieldLink "GardenChessModel" (336 : Nat) "GardenChessModel" "inHarm" "Z") ∈ lw_all := lw_g (lw_at lw_m8 30 rfl) rfl
theorem q1872 : (Jvm.Cond.fieldLink "GardenChessModel" (370 : Nat) "GardenChessModel" "placeX" "I") ∈ lw_all := lw_g (lw_at lw_m8 31 rfl) rfl
theorem q1873 : (Jvm.Cond.fieldLink "GardenChessModel" (373 : Nat) "GardenChessModel" "placeY" "I") ∈ lw_all := lw_g (lw_at lw_m8 32 rfl) rfl
theorem q1874 : (Jvm.Cond.fieldLink "GardenChessModel" (154 : Nat) "GardenChessModel" "now" "[I") ∈ lw_all := lw_g (lw_at lw_m8 33 rfl) rfl
theorem q1875 : (Jvm.Cond.fieldLink "GardenChessModel" (157 : Nat) "GardenChessModel" "aside" "[I") ∈ lw_all := lw_g (lw_at lw_m8 34 rfl) rfl
theorem q1876 : (Jvm.Cond.fieldLink "GardenChessModel" (160 : Nat) "GardenChessModel" "doneMan" "[I") ∈ lw_all := lw_g (lw_at lw_m8 35 rfl) rfl
theorem q1877 : (Jvm.Cond.fieldLink "GardenChessModel" (163 : Nat) "GardenChessModel" "doneX" "[I") ∈ lw_all := lw_g (lw_at lw_m8 36 rfl) rfl
theorem q1878 : (Jvm.Cond.fieldLink "GardenChessModel" (166 : Nat) "GardenChessModel" "doneY" "[I") ∈ lw_all := lw_g (lw_at lw_m8 37 rfl) rfl
theorem q1879 : (Jvm.Cond.fieldLink "GardenChessModel" (169 : Nat) "GardenChessModel" "doneTook" "[I") ∈ lw_all := lw_g (lw_at lw_m8 38 rfl) rfl
theorem q1880 : (Jvm.Cond.fieldLink "GardenChessModel" (515 : Nat) "GardenChessModel" "chosen" "I") ∈ lw_all := lw_g (lw_at lw_m8 39 rfl) rfl
theorem q1881 : (Jvm.Cond.fieldLink "GardenChessModel" (521 : Nat) "GardenChessModel" "chosenMan" "I") ∈ lw_all := lw_g (lw_at lw_m8 40 rfl) rfl
theorem q1882 : (Jvm.Cond.fieldLink "GardenChessModel" (524 : Nat) "GardenChessModel" "chosenPlace" "I") ∈ lw_all := lw_g (lw_at lw_m8 41 rfl) rfl
theorem q1883 : (Jvm.Cond.fieldLink "GardenChessModel" (527 : Nat) "GardenChessModel" "askTaken" "J") ∈ lw_all := lw_g (lw_at lw_m8 42 rfl) rfl
theorem q1884 : (Jvm.Cond.fieldLink "GardenChessModel" (556 : Nat) "GardenChessModel" "askCheck" "J") ∈ lw_all := lw_g (lw_at lw_m8 43 rfl) rfl
theorem q1885 : (Jvm.Cond.fieldLink "GardenChessModel" (530 : Nat) "GardenChessModel" "askOff" "J") ∈ lw_all := lw_g (lw_at lw_m8 44 rfl) rfl
theorem q1886 : (Jvm.Cond.fieldLink "GardenChessModel" (172 : Nat) "GardenChessModel" "askMoves" "[I") ∈ lw_all := lw_g (lw_at lw_m8 45 rfl) rfl
theorem q1887 : (Jvm.Cond.fieldLink "GardenChessModel" (547 : Nat) "GardenChessModel" "isThought" "Z") ∈ lw_all := lw_g (lw_at lw_m8 46 rfl) rfl
theorem q1888 : (Jvm.Cond.fieldLink "GardenChessModel" (175 : Nat) "GardenChessModel" "harms" "[J") ∈ lw_all := lw_g (lw_at lw_m8 47 rfl) rfl
theorem q1889 : (Jvm.Cond.fieldLink "GardenChessModel" (550 : Nat) "GardenChessModel" "tookLast" "I") ∈ lw_all := lw_g (lw_at lw_m8 48 rfl) rfl
theorem q1890 : (Jvm.Cond.fieldLink "GardenChessModel" (178 : Nat) "GardenChessModel" "deeperSide" "I") ∈ lw_all := lw_g (lw_at lw_m8 49 rfl) rfl
theorem q1891 : (Jvm.Cond.fieldLink "GardenChessModel" (569 : Nat) "GardenChessModel" "deeperBy" "I") ∈ lw_all := lw_g (lw_at lw_m8 50 rfl) rfl
theorem q1892 : (Jvm.Cond.fieldLink "GardenChessModel" (430 : Nat) "GardenChessModel" "rowMany" "I") ∈ lw_all := lw_g (lw_at lw_m8 51 rfl) rfl
theorem q1893 : (Jvm.Cond.fieldLink "GardenChessModel" (181 : Nat) "GardenChessModel" "rows" "[I") ∈ lw_all := lw_g (lw_at lw_m8 52 rfl) rfl
theorem q1894 : (Jvm.Cond.fieldLink "GardenChessModel" (184 : Nat) "GardenChessModel" "goal" "[I") ∈ lw_all := lw_g (lw_at lw_m8 53 rfl) rfl
theorem q1895 : (Jvm.Cond.fieldLink "GardenChessModel" (187 : Nat) "GardenChessModel" "kept0" "[I") ∈ lw_all := lw_g (lw_at lw_m8 54 rfl) rfl
theorem q1896 : (Jvm.Cond.fieldLink "GardenChessModel" (427 : Nat) "GardenChessModel" "undoable" "I") ∈ lw_all := lw_g (lw_at lw_m8 55 rfl) rfl
theorem q1897 : (Jvm.Cond.fieldLink "GardenChessModel" (660 : Nat) "GardenChessModel" "newest" "I") ∈ lw_all := lw_g (lw_at lw_m8 56 rfl) rfl
theorem q1898 : (Jvm.Cond.fieldLink "GardenChessModel" (190 : Nat) "GardenChessModel" "seeded" "J") ∈ lw_all := lw_g (lw_at lw_m8 57 rfl) rfl
theorem q1899 : (Jvm.Cond.fieldLink "GardenChessModel" (194 : Nat) "GardenChessModel" "firstAsked" "[C") ∈ lw_all := lw_g (lw_at lw_m8 58 rfl) rfl
theorem q1900 : (Jvm.Cond.fieldLink "GardenChessModel" (197 : Nat) "GardenChessModel" "lastAsked" "[C") ∈ lw_all := lw_g (lw_at lw_m8 59 rfl) rfl
theorem q1901 : (Jvm.Cond.fieldLink "GardenChessModel" (200 : Nat) "GardenChessModel" "oftenAsked" "[C") ∈ lw_all := lw_g (lw_at lw_m8 60 rfl) rfl
theorem q1902 : (Jvm.Cond.fieldLink "GardenChessModel" (203 : Nat) "GardenChessModel" "totalAsked" "[C") ∈ lw_all := lw_g (lw_at lw_m8 61 rfl) rfl
theorem q1903 : (Jvm.Cond.fieldLink "GardenChessModel" (206 : Nat) "GardenChessModel" "mostAsked" "[C") ∈ lw_all := lw_g (lw_at lw_m8 62 rfl) rfl
theorem q1904 : (Jvm.Cond.fieldLink "GardenChessModel" (209 : Nat) "GardenChessModel" "leastAsked" "[C") ∈ lw_all := lw_g (lw_at lw_m8 63 rfl) rfl
theorem q1905 : (Jvm.Cond.fieldLink "GardenChessModel" (212 : Nat) "GardenChessModel" "notAsked" "[C") ∈ lw_all := lw_g (lw_at lw_m8 64 rfl) rfl
theorem q1906 : (Jvm.Cond.fieldLink "GardenChessModel" (215 : Nat) "GardenChessModel" "andAsked" "[C") ∈ lw_all := lw_g (lw_at lw_m8 65 rfl) rfl
theorem q1907 : (Jvm.Cond.fieldLink "GardenChessModel" (218 : Nat) "GardenChessModel" "orAsked" "[C") ∈ lw_all := lw_g (lw_at lw_m8 66 rfl) rfl
theorem q1908 : (Jvm.Cond.fieldLink "GardenChessModel" (221 : Nat) "GardenChessModel" "allAsked" "[C") ∈ lw_all := lw_g (lw_at lw_m8 67 rfl) rfl
theorem q1909 : (Jvm.Cond.fieldLink "GardenChessModel" (224 : Nat) "GardenChessModel" "minAsked" "[C") ∈ lw_all := lw_g (lw_at lw_m8 68 rfl) rfl
theorem q1910 : (Jvm.Cond.fieldLink "GardenChessModel" (227 : Nat) "GardenChessModel" "maxAsked" "[C") ∈ lw_all := lw_g (lw_at lw_m8 69 rfl) rfl
theorem q1911 : (Jvm.Cond.fieldLink "GardenChessModel" (230 : Nat) "GardenChessModel" "takenAsked" "[C") ∈ lw_all := lw_g (lw_at lw_m8 70 rfl) rfl
theorem q1912 : (Jvm.Cond.fieldLink "GardenChessModel" (233 : Nat) "GardenChessModel" "checkAsked" "[C") ∈ lw_all := lw_g (lw_at lw_m8 71 rfl) rfl
theorem q1913 : (Jvm.Cond.fieldLink "GardenChessModel" (236 : Nat) "GardenChessModel" "offAsked" "[C") ∈ lw_all := lw_g (lw_at lw_m8 72 rfl) rfl
theorem q1914 : (Jvm.Cond.fieldLink "GardenChessModel" (239 : Nat) "GardenChessModel" "dayAsked" "[C") ∈ lw_all := lw_g (lw_at lw_m8 73 rfl) rfl
theorem q1915 : (Jvm.Cond.fieldLink "GardenChessModel" (242 : Nat) "GardenChessModel" "numberAsked" "[C") ∈ lw_all := lw_g (lw_at lw_m8 74 rfl) rfl
theorem q1916 : (Jvm.Cond.fieldLink "GardenChessModel" (245 : Nat) "GardenChessModel" "columnAsked" "[C") ∈ lw_all := lw_g (lw_at lw_m8 75 rfl) rfl
theorem q1917 : (Jvm.Cond.fieldLink "GardenChessModel" (248 : Nat) "GardenChessModel" "rowAsked" "[C") ∈ lw_all := lw_g (lw_at lw_m8 76 rfl) rfl
theorem q1918 : (Jvm.Cond.fieldLink "GardenChessModel" (251 : Nat) "GardenChessModel" "sideAsked" "[C") ∈ lw_all := lw_g (lw_at lw_m8 77 rfl) rfl
theorem q1919 : (Jvm.Cond.fieldLink "GardenChessModel" (254 : Nat) "GardenChessModel" "worthAsked" "[C") ∈ lw_all := lw_g (lw_at lw_m8 78 rfl) rfl
theorem q1920 : (Jvm.Cond.fieldLink "GardenChessModel" (257 : Nat) "GardenChessModel" "reachAsked" "[C") ∈ lw_all := lw_g (lw_at lw_m8 79 rfl) rfl
theorem q1921 : (Jvm.Cond.fieldLink "GardenChessModel" (260 : Nat) "GardenChessModel" "movesAsked" "[C") ∈ lw_all := lw_g (lw_at lw_m8 80 rfl) rfl
theorem q1922 : (Jvm.Cond.fieldLink "GardenChessModel" (263 : Nat) "GardenChessModel" "qCodes" "[I") ∈ lw_all := lw_g (lw_at lw_m8 81 rfl) rfl
theorem q1923 : (Jvm.Cond.fieldLink "GardenChessModel" (379 : Nat) "GardenChessModel" "qCoded" "I") ∈ lw_all := lw_g (lw_at lw_m8 82 rfl) rfl
theorem q1924 : (Jvm.Cond.fieldLink "GardenChessModel" (266 : Nat) "GardenChessModel" "qWait" "[I") ∈ lw_all := lw_g (lw_at lw_m8 83 rfl) rfl
theorem q1925 : (Jvm.Cond.fieldLink "GardenChessModel" (382 : Nat) "GardenChessModel" "qWaits" "I") ∈ lw_all := lw_g (lw_at lw_m8 84 rfl) rfl
theorem q1926 : (Jvm.Cond.fieldLink "GardenChessModel" (385 : Nat) "GardenChessModel" "qOpened" "I") ∈ lw_all := lw_g (lw_at lw_m8 85 rfl) rfl
theorem q1927 : (Jvm.Cond.fieldLink "GardenChessModel" (388 : Nat) "GardenChessModel" "qBase" "I") ∈ lw_all := lw_g (lw_at lw_m8 86 rfl) rfl
theorem q1928 : (Jvm.Cond.fieldLink "GardenChessModel" (269 : Nat) "GardenChessModel" "qPile" "[J") ∈ lw_all := lw_g (lw_at lw_m8 87 rfl) rfl
theorem q1929 : (Jvm.Cond.fieldLink "GardenChessModel" (533 : Nat) "GardenChessModel" "qPiled" "I") ∈ lw_all := lw_g (lw_at lw_m8 88 rfl) rfl
theorem q1930 : (Jvm.Cond.fieldLink "GardenChessModel" (749 : Nat) "GardenChessModel" "qAnswer" "J") ∈ lw_all := lw_g (lw_at lw_m8 89 rfl) rfl
theorem q1931 : (Jvm.Cond.fieldLink "GardenChessModel" (754 : Nat) "GardenChessModel" "qIsNew" "Z") ∈ lw_all := lw_g (lw_at lw_m8 90 rfl) rfl
theorem q1932 : (Jvm.Cond.fieldLink "GardenChessModel" (272 : Nat) "GardenChessModel" "octet" "[I") ∈ lw_all := lw_g (lw_at lw_m8 91 rfl) rfl
theorem q1933 : (Jvm.Cond.fieldLink "GardenChessModel" (771 : Nat) "GardenChessModel" "octets" "I") ∈ lw_all := lw_g (lw_at lw_m8 92 rfl) rfl
theorem q1934 : (Jvm.Cond.laysFinal "GardenChessModel" "GardenChessModel" "tape" "[I") ∈ lw_all := lw_g (lw_at lw_m8 93 rfl) rfl
theorem q1935 : (Jvm.Cond.soleField "GardenChessModel" "tape") ∈ lw_all := lw_g (lw_at lw_m8 94 rfl) rfl
theorem q1936 : (Jvm.Cond.lays "GardenChessModel" "GardenChessModel" "taped" "I") ∈ lw_all := lw_g (lw_at lw_m8 95 rfl) rfl
theorem q1937 : (Jvm.Cond.soleField "GardenChessModel" "taped") ∈ lw_all := lw_g (lw_at lw_m8 96 rfl) rfl
theorem q1938 : (Jvm.Cond.lays "GardenChessModel" "GardenChessModel" "at" "I") ∈ lw_all := lw_g (lw_at lw_m8 97 rfl) rfl
theorem q1939 : (Jvm.Cond.soleField "GardenChessModel" "at") ∈ lw_all := lw_g (lw_at lw_m8 98 rfl) rfl
theorem q1940 : (Jvm.Cond.lays "GardenChessModel" "GardenChessModel" "end" "I") ∈ lw_all := lw_g (lw_at lw_m8 99 rfl) rfl
theorem q1941 : (Jvm.Cond.soleField "GardenChessModel" "end") ∈ lw_all := lw_g (lw_at lw_m8 100 rfl) rfl
theorem q1942 : (Jvm.Cond.lays "GardenChessModel" "GardenChessModel" "ended" "I") ∈ lw_all := lw_g (lw_at lw_m8 101 rfl) rfl
theorem q1943 : (Jvm.Cond.soleField "GardenChessModel" "ended") ∈ lw_all := lw_g (lw_at lw_m8 102 rfl) rfl
theorem q1944 : (Jvm.Cond.lays "GardenChessModel" "GardenChessModel" "bad" "I") ∈ lw_all := lw_g (lw_at lw_m8 103 rfl) rfl
theorem q1945 : (Jvm.Cond.soleField "GardenChessModel" "bad") ∈ lw_all := lw_g (lw_at lw_m8 104 rfl) rfl
theorem q1946 : (Jvm.Cond.lays "GardenChessModel" "GardenChessModel" "badPlace" "I") ∈ lw_all := lw_g (lw_at lw_m8 105 rfl) rfl
theorem q1947 : (Jvm.Cond.soleField "GardenChessModel" "badPlace") ∈ lw_all := lw_g (lw_at lw_m8 106 rfl) rfl
theorem q1948 : (Jvm.Cond.lays "GardenChessModel" "GardenChessModel" "fault" "I") ∈ lw_all := lw_g (lw_at lw_m8 107 rfl) rfl
theorem q1949 : (Jvm.Cond.soleField "GardenChessModel" "fault") ∈ lw_all := lw_g (lw_at lw_m8 108 rfl) rfl
theorem q1950 : (Jvm.Cond.lays "GardenChessModel" "GardenChessModel" "faultPlace" "I") ∈ lw_all := lw_g (lw_at lw_m8 109 rfl) rfl
theorem q1951 : (Jvm.Cond.soleField "GardenChessModel" "faultPlace") ∈ lw_all := lw_g (lw_at lw_m8 110 rfl) rfl
theorem q1952 : (Jvm.Cond.laysFinal "GardenChessModel" "GardenChessModel" "refused" "[I") ∈ lw_all := lw_g (lw_at lw_m8 111 rfl) rfl
theorem q1953 : (Jvm.Cond.soleField "GardenChessModel" "refused") ∈ lw_all := lw_g (lw_at lw_m8 112 rfl) rfl
theorem q1954 : (Jvm.Cond.lays "GardenChessModel" "GardenChessModel" "numberPlace" "I") ∈ lw_all := lw_g (lw_at lw_m8 113 rfl) rfl
theorem q1955 : (Jvm.Cond.soleField "GardenChessModel" "numberPlace") ∈ lw_all := lw_g (lw_at lw_m8 114 rfl) rfl
theorem q1956 : (Jvm.Cond.laysFinal "GardenChessModel" "GardenChessModel" "boardWord" "[C") ∈ lw_all := lw_g (lw_at lw_m8 115 rfl) rfl
theorem q1957 : (Jvm.Cond.soleField "GardenChessModel" "boardWord") ∈ lw_all := lw_g (lw_at lw_m8 116 rfl) rfl
theorem q1958 : (Jvm.Cond.laysFinal "GardenChessModel" "GardenChessModel" "byWord" "[C") ∈ lw_all := lw_g (lw_at lw_m8 117 rfl) rfl
theorem q1959 : (Jvm.Cond.soleField "GardenChessModel" "byWord") ∈ lw_all := lw_g (lw_at lw_m8 118 rfl) rfl
theorem q1960 : (Jvm.Cond.laysFinal "GardenChessModel" "GardenChessModel" "whiteWord" "[C") ∈ lw_all := lw_g (lw_at lw_m8 119 rfl) rfl
theorem q1961 : (Jvm.Cond.soleField "GardenChessModel" "whiteWord") ∈ lw_all := lw_g (lw_at lw_m8 120 rfl) rfl
theorem q1962 : (Jvm.Cond.laysFinal "GardenChessModel" "GardenChessModel" "blackWord" "[C") ∈ lw_all := lw_g (lw_at lw_m8 121 rfl) rfl
theorem q1963 : (Jvm.Cond.soleField "GardenChessModel" "blackWord") ∈ lw_all := lw_g (lw_at lw_m8 122 rfl) rfl
theorem q1964 : (Jvm.Cond.laysFinal "GardenChessModel" "GardenChessModel" "kindWord" "[C") ∈ lw_all := lw_g (lw_at lw_m8 123 rfl) rfl
theorem q1965 : (Jvm.Cond.soleField "GardenChessModel" "kindWord") ∈ lw_all := lw_g (lw_at lw_m8 124 rfl) rfl
theorem q1966 : (Jvm.Cond.laysFinal "GardenChessModel" "GardenChessModel" "waysWord" "[C") ∈ lw_all := lw_g (lw_at lw_m8 125 rfl) rfl
theorem q1967 : (Jvm.Cond.soleField "GardenChessModel" "waysWord") ∈ lw_all := lw_g (lw_at lw_m8 126 rfl) rfl
theorem q1968 : (Jvm.Cond.laysFinal "GardenChessModel" "GardenChessModel" "reachWord" "[C") ∈ lw_all := lw_g (lw_at lw_m8 127 rfl) rfl
theorem q1969 : (Jvm.Cond.soleField "GardenChessModel" "reachWord") ∈ lw_all := lw_g (lw_at lw_m8 128 rfl) rfl
theorem q1970 : (Jvm.Cond.laysFinal "GardenChessModel" "GardenChessModel" "worthWord" "[C") ∈ lw_all := lw_g (lw_at lw_m8 129 rfl) rfl
theorem q1971 : (Jvm.Cond.soleField "GardenChessModel" "worthWord") ∈ lw_all := lw_g (lw_at lw_m8 130 rfl) rfl
theorem q1972 : (Jvm.Cond.laysFinal "GardenChessModel" "GardenChessModel" "crownWord" "[C") ∈ lw_all := lw_g (lw_at lw_m8 131 rfl) rfl
theorem q1973 : (Jvm.Cond.soleField "GardenChessModel" "crownWord") ∈ lw_all := lw_g (lw_at lw_m8 132 rfl) rfl
theorem q1974 : (Jvm.Cond.laysFinal "GardenChessModel" "GardenChessModel" "manWord" "[C") ∈ lw_all := lw_g (lw_at lw_m8 133 rfl) rfl
theorem q1975 : (Jvm.Cond.soleField "GardenChessModel" "manWord") ∈ lw_all := lw_g (lw_at lw_m8 134 rfl) rfl
theorem q1976 : (Jvm.Cond.laysFinal "GardenChessModel" "GardenChessModel" "isWord" "[C") ∈ lw_all := lw_g (lw_at lw_m8 135 rfl) rfl
theorem q1977 : (Jvm.Cond.soleField "GardenChessModel" "isWord") ∈ lw_all := lw_g (lw_at lw_m8 136 rfl) rfl
theorem q1978 : (Jvm.Cond.laysFinal "GardenChessModel" "GardenChessModel" "ofWord" "[C") ∈ lw_all := lw_g (lw_at lw_m8 137 rfl) rfl
theorem q1979 : (Jvm.Cond.soleField "GardenChessModel" "ofWord") ∈ lw_all := lw_g (lw_at lw_m8 138 rfl) rfl
theorem q1980 : (Jvm.Cond.laysFinal "GardenChessModel" "GardenChessModel" "atWord" "[C") ∈ lw_all := lw_g (lw_at lw_m8 139 rfl) rfl
theorem q1981 : (Jvm.Cond.soleField "GardenChessModel" "atWord") ∈ lw_all := lw_g (lw_at lw_m8 140 rfl) rfl
theorem q1982 : (Jvm.Cond.laysFinal "GardenChessModel" "GardenChessModel" "fieldWord" "[C") ∈ lw_all := lw_g (lw_at lw_m8 141 rfl) rfl
theorem q1983 : (Jvm.Cond.soleField "GardenChessModel" "fieldWord") ∈ lw_all := lw_g (lw_at lw_m8 142 rfl) rfl
theorem q1984 : (Jvm.Cond.laysFinal "GardenChessModel" "GardenChessModel" "bearsWord" "[C") ∈ lw_all := lw_g (lw_at lw_m8 143 rfl) rfl
theorem q1985 : (Jvm.Cond.soleField "GardenChessModel" "bearsWord") ∈ lw_all := lw_g (lw_at lw_m8 144 rfl) rfl
theorem q1986 : (Jvm.Cond.laysFinal "GardenChessModel" "GardenChessModel" "harmWord" "[C") ∈ lw_all := lw_g (lw_at lw_m8 145 rfl) rfl
theorem q1987 : (Jvm.Cond.soleField "GardenChessModel" "harmWord") ∈ lw_all := lw_g (lw_at lw_m8 146 rfl) rfl
theorem q1988 : (Jvm.Cond.laysFinal "GardenChessModel" "GardenChessModel" "growsWord" "[C") ∈ lw_all := lw_g (lw_at lw_m8 147 rfl) rfl
theorem q1989 : (Jvm.Cond.soleField "GardenChessModel" "growsWord") ∈ lw_all := lw_g (lw_at lw_m8 148 rfl) rfl
theorem q1990 : (Jvm.Cond.laysFinal "GardenChessModel" "GardenChessModel" "sleepyWord" "[C") ∈ lw_all := lw_g (lw_at lw_m8 149 rfl) rfl
theorem q1991 : (Jvm.Cond.soleField "GardenChessModel" "sleepyWord") ∈ lw_all := lw_g (lw_at lw_m8 150 rfl) rfl
theorem q1992 : (Jvm.Cond.laysFinal "GardenChessModel" "GardenChessModel" "takenWord" "[C") ∈ lw_all := lw_g (lw_at lw_m8 151 rfl) rfl
theorem q1993 : (Jvm.Cond.soleField "GardenChessModel" "takenWord") ∈ lw_all := lw_g (lw_at lw_m8 152 rfl) rfl
theorem q1994 : (Jvm.Cond.laysFinal "GardenChessModel" "GardenChessModel" "checkWord" "[C") ∈ lw_all := lw_g (lw_at lw_m8 153 rfl) rfl
theorem q1995 : (Jvm.Cond.soleField "GardenChessModel" "checkWord") ∈ lw_all := lw_g (lw_at lw_m8 154 rfl) rfl
theorem q1996 : (Jvm.Cond.laysFinal "GardenChessModel" "GardenChessModel" "offWord" "[C") ∈ lw_all := lw_g (lw_at lw_m8 155 rfl) rfl
theorem q1997 : (Jvm.Cond.soleField "GardenChessModel" "offWord") ∈ lw_all := lw_g (lw_at lw_m8 156 rfl) rfl
theorem q1998 : (Jvm.Cond.laysFinal "GardenChessModel" "GardenChessModel" "dayWord" "[C") ∈ lw_all := lw_g (lw_at lw_m8 157 rfl) rfl
theorem q1999 : (Jvm.Cond.soleField "GardenChessModel" "dayWord") ∈ lw_all := lw_g (lw_at lw_m8 158 rfl) rfl
theorem q2000 : (Jvm.Cond.laysFinal "GardenChessModel" "GardenChessModel" "numberWord" "[C") ∈ lw_all := lw_g (lw_at lw_m8 159 rfl) rfl
theorem q2001 : (Jvm.Cond.soleField "GardenChessModel" "numberWord") ∈ lw_all := lw_g (lw_at lw_m8 160 rfl) rfl
theorem q2002 : (Jvm.Cond.laysFinal "GardenChessModel" "GardenChessModel" "columnWord" "[C") ∈ lw_all := lw_g (lw_at lw_m8 161 rfl) rfl
theorem q2003 : (Jvm.Cond.soleField "GardenChessModel" "columnWord") ∈ lw_all := lw_g (lw_at lw_m8 162 rfl) rfl
theorem q2004 : (Jvm.Cond.laysFinal "GardenChessModel" "GardenChessModel" "rowWord" "[C") ∈ lw_all := lw_g (lw_at lw_m8 163 rfl) rfl
theorem q2005 : (Jvm.Cond.soleField "GardenChessModel" "rowWord") ∈ lw_all := lw_g (lw_at lw_m8 164 rfl) rfl
theorem q2006 : (Jvm.Cond.laysFinal "GardenChessModel" "GardenChessModel" "sideWord" "[C") ∈ lw_all := lw_g (lw_at lw_m8 165 rfl) rfl
theorem q2007 : (Jvm.Cond.soleField "GardenChessModel" "sideWord") ∈ lw_all := lw_g (lw_at lw_m8 166 rfl) rfl
theorem q2008 : (Jvm.Cond.laysFinal "GardenChessModel" "GardenChessModel" "movesWord" "[C") ∈ lw_all := lw_g (lw_at lw_m8 167 rfl) rfl
theorem q2009 : (Jvm.Cond.soleField "GardenChessModel" "movesWord") ∈ lw_all := lw_g (lw_at lw_m8 168 rfl) rfl
theorem q2010 : (Jvm.Cond.laysFinal "GardenChessModel" "GardenChessModel" "orWord" "[C") ∈ lw_all := lw_g (lw_at lw_m8 169 rfl) rfl
theorem q2011 : (Jvm.Cond.soleField "GardenChessModel" "orWord") ∈ lw_all := lw_g (lw_at lw_m8 170 rfl) rfl
theorem q2012 : (Jvm.Cond.laysFinal "GardenChessModel" "GardenChessModel" "andWord" "[C") ∈ lw_all := lw_g (lw_at lw_m8 171 rfl) rfl
theorem q2013 : (Jvm.Cond.soleField "GardenChessModel" "andWord") ∈ lw_all := lw_g (lw_at lw_m8 172 rfl) rfl
theorem q2014 : (Jvm.Cond.laysFinal "GardenChessModel" "GardenChessModel" "notWord" "[C") ∈ lw_all := lw_g (lw_at lw_m8 173 rfl) rfl
theorem q2015 : (Jvm.Cond.soleField "GardenChessModel" "notWord") ∈ lw_all := lw_g (lw_at lw_m8 174 rfl) rfl
theorem q2016 : (Jvm.Cond.laysFinal "GardenChessModel" "GardenChessModel" "allWord" "[C") ∈ lw_all := lw_g (lw_at lw_m8 175 rfl) rfl
theorem q2017 : (Jvm.Cond.soleField "GardenChessModel" "allWord") ∈ lw_all := lw_g (lw_at lw_m8 176 rfl) rfl
theorem q2018 : (Jvm.Cond.laysFinal "GardenChessModel" "GardenChessModel" "minWord" "[C") ∈ lw_all := lw_g (lw_at lw_m8 177 rfl) rfl
theorem q2019 : (Jvm.Cond.soleField "GardenChessModel" "minWord") ∈ lw_all := lw_g (lw_at lw_m8 178 rfl) rfl
theorem q2020 : (Jvm.Cond.laysFinal "GardenChessModel" "GardenChessModel" "maxWord" "[C") ∈ lw_all := lw_g (lw_at lw_m8 179 rfl) rfl
theorem q2021 : (Jvm.Cond.soleField "GardenChessModel" "maxWord") ∈ lw_all := lw_g (lw_at lw_m8 180 rfl) rfl
theorem q2022 : (Jvm.Cond.lays "GardenChessModel" "GardenChessModel" "namePlace" "I") ∈ lw_all := lw_g (lw_at lw_m8 181 rfl) rfl
theorem q2023 : (Jvm.Cond.soleField "GardenChessModel" "namePlace") ∈ lw_all := lw_g (lw_at lw_m8 182 rfl) rfl
theorem q2024 : (Jvm.Cond.laysFinal "GardenChessModel" "GardenChessModel" "many" "[I") ∈ lw_all := lw_g (lw_at lw_m8 183 rfl) rfl
theorem q2025 : (Jvm.Cond.soleField "GardenChessModel" "many") ∈ lw_all := lw_g (lw_at lw_m8 184 rfl) rfl
theorem q2026 : (Jvm.Cond.laysFinal "GardenChessModel" "GardenChessModel" "names" "[J") ∈ lw_all := lw_g (lw_at lw_m8 185 rfl) rfl
theorem q2027 : (Jvm.Cond.soleField "GardenChessModel" "names") ∈ lw_all := lw_g (lw_at lw_m8 186 rfl) rfl
theorem q2028 : (Jvm.Cond.laysFinal "GardenChessModel" "GardenChessModel" "side" "[I") ∈ lw_all := lw_g (lw_at lw_m8 187 rfl) rfl
theorem q2029 : (Jvm.Cond.soleField "GardenChessModel" "side") ∈ lw_all := lw_g (lw_at lw_m8 188 rfl) rfl
theorem q2030 : (Jvm.Cond.laysFinal "GardenChessModel" "GardenChessModel" "kinds" "[I") ∈ lw_all := lw_g (lw_at lw_m8 189 rfl) rfl
theorem q2031 : (Jvm.Cond.soleField "GardenChessModel" "kinds") ∈ lw_all := lw_g (lw_at lw_m8 190 rfl) rfl
theorem q2032 : (Jvm.Cond.laysFinal "GardenChessModel" "GardenChessModel" "men" "[I") ∈ lw_all := lw_g (lw_at lw_m8 191 rfl) rfl
theorem q2033 : (Jvm.Cond.soleField "GardenChessModel" "men") ∈ lw_all := lw_g (lw_at lw_m8 192 rfl) rfl
theorem q2034 : (Jvm.Cond.laysFinal "GardenChessModel" "GardenChessModel" "begins" "[I") ∈ lw_all := lw_g (lw_at lw_m8 193 rfl) rfl
theorem q2035 : (Jvm.Cond.soleField "GardenChessModel" "begins") ∈ lw_all := lw_g (lw_at lw_m8 194 rfl) rfl
theorem q2036 : (Jvm.Cond.laysFinal "GardenChessModel" "GardenChessModel" "fields" "[I") ∈ lw_all := lw_g (lw_at lw_m8 195 rfl) rfl
theorem q2037 : (Jvm.Cond.soleField "GardenChessModel" "fields") ∈ lw_all := lw_g (lw_at lw_m8 196 rfl) rfl
theorem q2038 : (Jvm.Cond.laysFinal "GardenChessModel" "GardenChessModel" "settings" "[I") ∈ lw_all := lw_g (lw_at lw_m8 197 rfl) rfl
theorem q2039 : (Jvm.Cond.soleField "GardenChessModel" "settings") ∈ lw_all := lw_g (lw_at lw_m8 198 rfl) rfl
theorem q2040 : (Jvm.Cond.laysFinal "GardenChessModel" "GardenChessModel" "sumFrom" "[I") ∈ lw_all := lw_g (lw_at lw_m8 199 rfl) rfl
theorem q2041 : (Jvm.Cond.soleField "GardenChessModel" "sumFrom") ∈ lw_all := lw_g (lw_at lw_m8 200 rfl) rfl
theorem q2042 : (Jvm.Cond.laysFinal "GardenChessModel" "GardenChessModel" "sumEnd" "[I") ∈ lw_all := lw_g (lw_at lw_m8 201 rfl) rfl
theorem q2043 : (Jvm.Cond.soleField "GardenChessModel" "sumEnd") ∈ lw_all := lw_g (lw_at lw_m8 202 rfl) rfl
theorem q2044 : (Jvm.Cond.laysFinal "GardenChessModel" "GardenChessModel" "codes" "[I") ∈ lw_all := lw_g (lw_at lw_m8 203 rfl) rfl
theorem q2045 : (Jvm.Cond.soleField "GardenChessModel" "codes") ∈ lw_all := lw_g (lw_at lw_m8 204 rfl) rfl
theorem q2046 : (Jvm.Cond.lays "GardenChessModel" "GardenChessModel" "coded" "I") ∈ lw_all := lw_g (lw_at lw_m8 205 rfl) rfl
theorem q2047 : (Jvm.Cond.soleField "GardenChessModel" "coded") ∈ lw_all := lw_g (lw_at lw_m8 206 rfl) rfl
theorem q2048 : (Jvm.Cond.lays "GardenChessModel" "GardenChessModel" "statements" "I") ∈ lw_all := lw_g (lw_at lw_m8 207 rfl) rfl
theorem q2049 : (Jvm.Cond.soleField "GardenChessModel" "statements") ∈ lw_all := lw_g (lw_at lw_m8 208 rfl) rfl
theorem q2050 : (Jvm.Cond.lays "GardenChessModel" "GardenChessModel" "isBoard" "Z") ∈ lw_all := lw_g (lw_at lw_m8 209 rfl) rfl
theorem q2051 : (Jvm.Cond.soleField "GardenChessModel" "isBoard") ∈ lw_all := lw_g (lw_at lw_m8 210 rfl) rfl
theorem q2052 : (Jvm.Cond.lays "GardenChessModel" "GardenChessModel" "inHarm" "Z") ∈ lw_all := lw_g (lw_at lw_m8 211 rfl) rfl
theorem q2053 : (Jvm.Cond.soleField "GardenChessModel" "inHarm") ∈ lw_all := lw_g (lw_at lw_m8 212 rfl) rfl
theorem q2054 : (Jvm.Cond.lays "GardenChessModel" "GardenChessModel" "placeX" "I") ∈ lw_all := lw_g (lw_at lw_m8 213 rfl) rfl
theorem q2055 : (Jvm.Cond.soleField "GardenChessModel" "placeX") ∈ lw_all := lw_g (lw_at lw_m8 214 rfl) rfl
theorem q2056 : (Jvm.Cond.lays "GardenChessModel" "GardenChessModel" "placeY" "I") ∈ lw_all := lw_g (lw_at lw_m8 215 rfl) rfl
theorem q2057 : (Jvm.Cond.soleField "GardenChessModel" "placeY") ∈ lw_all := lw_g (lw_at lw_m8 216 rfl) rfl
theorem q2058 : (Jvm.Cond.laysFinal "GardenChessModel" "GardenChessModel" "now" "[I") ∈ lw_all := lw_g (lw_at lw_m8 217 rfl) rfl
theorem q2059 : (Jvm.Cond.soleField "GardenChessModel" "now") ∈ lw_all := lw_g (lw_at lw_m8 218 rfl) rfl
theorem q2060 : (Jvm.Cond.laysFinal "GardenChessModel" "GardenChessModel" "aside" "[I") ∈ lw_all := lw_g (lw_at lw_m8 219 rfl) rfl
theorem q2061 : (Jvm.Cond.soleField "GardenChessModel" "aside") ∈ lw_all := lw_g (lw_at lw_m8 220 rfl) rfl
theorem q2062 : (Jvm.Cond.laysFinal "GardenChessModel" "GardenChessModel" "doneMan" "[I") ∈ lw_all := lw_g (lw_at lw_m8 221 rfl) rfl
theorem q2063 : (Jvm.Cond.soleField "GardenChessModel" "doneMan") ∈ lw_all := lw_g (lw_at lw_m8 222 rfl) rfl
theorem q2064 : (Jvm.Cond.laysFinal "GardenChessModel" "GardenChessModel" "doneX" "[I") ∈ lw_all := lw_g (lw_at lw_m8 223 rfl) rfl
theorem q2065 : (Jvm.Cond.soleField "GardenChessModel" "doneX") ∈ lw_all := lw_g (lw_at lw_m8 224 rfl) rfl
theorem q2066 : (Jvm.Cond.laysFinal "GardenChessModel" "GardenChessModel" "doneY" "[I") ∈ lw_all := lw_g (lw_at lw_m8 225 rfl) rfl
theorem q2067 : (Jvm.Cond.soleField "GardenChessModel" "doneY") ∈ lw_all := lw_g (lw_at lw_m8 226 rfl) rfl
theorem q2068 : (Jvm.Cond.laysFinal "GardenChessModel" "GardenChessModel" "doneTook" "[I") ∈ lw_all := lw_g (lw_at lw_m8 227 rfl) rfl
theorem q2069 : (Jvm.Cond.soleField "GardenChessModel" "doneTook") ∈ lw_all := lw_g (lw_at lw_m8 228 rfl) rfl
theorem q2070 : (Jvm.Cond.lays "GardenChessModel" "GardenChessModel" "chosen" "I") ∈ lw_all := lw_g (lw_at lw_m8 229 rfl) rfl
theorem q2071 : (Jvm.Cond.soleField "GardenChessModel" "chosen") ∈ lw_all := lw_g (lw_at lw_m8 230 rfl) rfl
theorem q2072 : (Jvm.Cond.lays "GardenChessModel" "GardenChessModel" "chosenMan" "I") ∈ lw_all := lw_g (lw_at lw_m8 231 rfl) rfl
theorem q2073 : (Jvm.Cond.soleField "GardenChessModel" "chosenMan") ∈ lw_all := lw_g (lw_at lw_m8 232 rfl) rfl
theorem q2074 : (Jvm.Cond.lays "GardenChessModel" "GardenChessModel" "chosenPlace" "I") ∈ lw_all := lw_g (lw_at lw_m8 233 rfl) rfl
theorem q2075 : (Jvm.Cond.soleField "GardenChessModel" "chosenPlace") ∈ lw_all := lw_g (lw_at lw_m8 234 rfl) rfl
theorem q2076 : (Jvm.Cond.lays "GardenChessModel" "GardenChessModel" "askTaken" "J") ∈ lw_all := lw_g (lw_at lw_m8 235 rfl) rfl
theorem q2077 : (Jvm.Cond.soleField "GardenChessModel" "askTaken") ∈ lw_all := lw_g (lw_at lw_m8 236 rfl) rfl
theorem q2078 : (Jvm.Cond.lays "GardenChessModel" "GardenChessModel" "askCheck" "J") ∈ lw_all := lw_g (lw_at lw_m8 237 rfl) rfl
theorem q2079 : (Jvm.Cond.soleField "GardenChessModel" "askCheck") ∈ lw_all := lw_g (lw_at lw_m8 238 rfl) rfl
theorem q2080 : (Jvm.Cond.lays "GardenChessModel" "GardenChessModel" "askOff" "J") ∈ lw_all := lw_g (lw_at lw_m8 239 rfl) rfl
theorem q2081 : (Jvm.Cond.soleField "GardenChessModel" "askOff") ∈ lw_all := lw_g (lw_at lw_m9 0 rfl) rfl
theorem q2082 : (Jvm.Cond.laysFinal "GardenChessModel" "GardenChessModel" "askMoves" "[I") ∈ lw_all := lw_g (lw_at lw_m9 1 rfl) rfl
theorem q2083 : (Jvm.Cond.soleField "GardenChessModel" "askMoves") ∈ lw_all := lw_g (lw_at lw_m9 2 rfl) rfl
theorem q2084 : (Jvm.Cond.lays "GardenChessModel" "GardenChessModel" "isThought" "Z") ∈ lw_all := lw_g (lw_at lw_m9 3 rfl) rfl
theorem q2085 : (Jvm.Cond.soleField "GardenChessModel" "isThought") ∈ lw_all := lw_g (lw_at lw_m9 4 rfl) rfl
theorem q2086 : (Jvm.Cond.laysFinal "GardenChessModel" "GardenChessModel" "harms" "[J") ∈ lw_all := lw_g (lw_at lw_m9 5 rfl) rfl
theorem q2087 : (Jvm.Cond.soleField "GardenChessModel" "harms") ∈ lw_all := lw_g (lw_at lw_m9 6 rfl) rfl
theorem q2088 : (Jvm.Cond.lays "GardenChessModel" "GardenChessModel" "tookLast" "I") ∈ lw_all := lw_g (lw_at lw_m9 7 rfl) rfl
theorem q2089 : (Jvm.Cond.soleField "GardenChessModel" "tookLast") ∈ lw_all := lw_g (lw_at lw_m9 8 rfl) rfl
theorem q2090 : (Jvm.Cond.lays "GardenChessModel" "GardenChessModel" "deeperSide" "I") ∈ lw_all := lw_g (lw_at lw_m9 9 rfl) rfl
theorem q2091 : (Jvm.Cond.soleField "GardenChessModel" "deeperSide") ∈ lw_all := lw_g (lw_at lw_m9 10 rfl) rfl
theorem q2092 : (Jvm.Cond.lays "GardenChessModel" "GardenChessModel" "deeperBy" "I") ∈ lw_all := lw_g (lw_at lw_m9 11 rfl) rfl
theorem q2093 : (Jvm.Cond.soleField "GardenChessModel" "deeperBy") ∈ lw_all := lw_g (lw_at lw_m9 12 rfl) rfl
theorem q2094 : (Jvm.Cond.lays "GardenChessModel" "GardenChessModel" "rowMany" "I") ∈ lw_all := lw_g (lw_at lw_m9 13 rfl) rfl
theorem q2095 : (Jvm.Cond.soleField "GardenChessModel" "rowMany") ∈ lw_all := lw_g (lw_at lw_m9 14 rfl) rfl
theorem q2096 : (Jvm.Cond.laysFinal "GardenChessModel" "GardenChessModel" "rows" "[I") ∈ lw_all := lw_g (lw_at lw_m9 15 rfl) rfl
theorem q2097 : (Jvm.Cond.soleField "GardenChessModel" "rows") ∈ lw_all := lw_g (lw_at lw_m9 16 rfl) rfl
theorem q2098 : (Jvm.Cond.laysFinal "GardenChessModel" "GardenChessModel" "goal" "[I") ∈ lw_all := lw_g (lw_at lw_m9 17 rfl) rfl
theorem q2099 : (Jvm.Cond.soleField "GardenChessModel" "goal") ∈ lw_all := lw_g (lw_at lw_m9 18 rfl) rfl
theorem q2100 : (Jvm.Cond.laysFinal "GardenChessModel" "GardenChessModel" "kept0" "[I") ∈ lw_all := lw_g (lw_at lw_m9 19 rfl) rfl
theorem q2101 : (Jvm.Cond.soleField "GardenChessModel" "kept0") ∈ lw_all := lw_g (lw_at lw_m9 20 rfl) rfl
theorem q2102 : (Jvm.Cond.lays "GardenChessModel" "GardenChessModel" "undoable" "I") ∈ lw_all := lw_g (lw_at lw_m9 21 rfl) rfl
theorem q2103 : (Jvm.Cond.soleField "GardenChessModel" "undoable") ∈ lw_all := lw_g (lw_at lw_m9 22 rfl) rfl
theorem q2104 : (Jvm.Cond.lays "GardenChessModel" "GardenChessModel" "newest" "I") ∈ lw_all := lw_g (lw_at lw_m9 23 rfl) rfl
theorem q2105 : (Jvm.Cond.soleField "GardenChessModel" "newest") ∈ lw_all := lw_g (lw_at lw_m9 24 rfl) rfl
theorem q2106 : (Jvm.Cond.lays "GardenChessModel" "GardenChessModel" "seeded" "J") ∈ lw_all := lw_g (lw_at lw_m9 25 rfl) rfl
theorem q2107 : (Jvm.Cond.soleField "GardenChessModel" "seeded") ∈ lw_all := lw_g (lw_at lw_m9 26 rfl) rfl
theorem q2108 : (Jvm.Cond.laysFinal "GardenChessModel" "GardenChessModel" "firstAsked" "[C") ∈ lw_all := lw_g (lw_at lw_m9 27 rfl) rfl
theorem q2109 : (Jvm.Cond.soleField "GardenChessModel" "firstAsked") ∈ lw_all := lw_g (lw_at lw_m9 28 rfl) rfl
theorem q2110 : (Jvm.Cond.laysFinal "GardenChessModel" "GardenChessModel" "lastAsked" "[C") ∈ lw_all := lw_g (lw_at lw_m9 29 rfl) rfl
theorem q2111 : (Jvm.Cond.soleField "GardenChessModel" "lastAsked") ∈ lw_all := lw_g (lw_at lw_m9 30 rfl) rfl
theorem q2112 : (Jvm.Cond.laysFinal "GardenChessModel" "GardenChessModel" "oftenAsked" "[C") ∈ lw_all := lw_g (lw_at lw_m9 31 rfl) rfl
theorem q2113 : (Jvm.Cond.soleField "GardenChessModel" "oftenAsked") ∈ lw_all := lw_g (lw_at lw_m9 32 rfl) rfl
theorem q2114 : (Jvm.Cond.laysFinal "GardenChessModel" "GardenChessModel" "totalAsked" "[C") ∈ lw_all := lw_g (lw_at lw_m9 33 rfl) rfl
theorem q2115 : (Jvm.Cond.soleField "GardenChessModel" "totalAsked") ∈ lw_all := lw_g (lw_at lw_m9 34 rfl) rfl
theorem q2116 : (Jvm.Cond.laysFinal "GardenChessModel" "GardenChessModel" "mostAsked" "[C") ∈ lw_all := lw_g (lw_at lw_m9 35 rfl) rfl
theorem q2117 : (Jvm.Cond.soleField "GardenChessModel" "mostAsked") ∈ lw_all := lw_g (lw_at lw_m9 36 rfl) rfl
theorem q2118 : (Jvm.Cond.laysFinal "GardenChessModel" "GardenChessModel" "leastAsked" "[C") ∈ lw_all := lw_g (lw_at lw_m9 37 rfl) rfl
theorem q2119 : (Jvm.Cond.soleField "GardenChessModel" "leastAsked") ∈ lw_all := lw_g (lw_at lw_m9 38 rfl) rfl
theorem q2120 : (Jvm.Cond.laysFinal "GardenChessModel" "GardenChessModel" "notAsked" "[C") ∈ lw_all := lw_g (lw_at lw_m9 39 rfl) rfl
theorem q2121 : (Jvm.Cond.soleField "GardenChessModel" "notAsked") ∈ lw_all := lw_g (lw_at lw_m9 40 rfl) rfl
theorem q2122 : (Jvm.Cond.laysFinal "GardenChessModel" "GardenChessModel" "andAsked" "[C") ∈ lw_all := lw_g (lw_at lw_m9 41 rfl) rfl
theorem q2123 : (Jvm.Cond.soleField "GardenChessModel" "andAsked") ∈ lw_all := lw_g (lw_at lw_m9 42 rfl) rfl
theorem q2124 : (Jvm.Cond.laysFinal "GardenChessModel" "GardenChessModel" "orAsked" "[C") ∈ lw_all := lw_g (lw_at lw_m9 43 rfl) rfl
theorem q2125 : (Jvm.Cond.soleField "GardenChessModel" "orAsked") ∈ lw_all := lw_g (lw_at lw_m9 44 rfl) rfl
theorem q2126 : (Jvm.Cond.laysFinal "GardenChessModel" "GardenChessModel" "allAsked" "[C") ∈ lw_all := lw_g (lw_at lw_m9 45 rfl) rfl
theorem q2127 : (Jvm.Cond.soleField "GardenChessModel" "allAsked") ∈ lw_all := lw_g (lw_at lw_m9 46 rfl) rfl
theorem q2128 : (Jvm.Cond.laysFinal "GardenChessModel" "GardenChessModel" "minAsked" "[C") ∈ lw_all := lw_g (lw_at lw_m9 47 rfl) rfl
theorem q2129 : (Jvm.Cond.soleField "GardenChessModel" "minAsked") ∈ lw_all := lw_g (lw_at lw_m9 48 rfl) rfl
theorem q2130 : (Jvm.Cond.laysFinal "GardenChessModel" "GardenChessModel" "maxAsked" "[C") ∈ lw_all := lw_g (lw_at lw_m9 49 rfl) rfl
theorem q2131 : (Jvm.Cond.soleField "GardenChessModel" "maxAsked") ∈ lw_all := lw_g (lw_at lw_m9 50 rfl) rfl
theorem q2132 : (Jvm.Cond.laysFinal "GardenChessModel" "GardenChessModel" "takenAsked" "[C") ∈ lw_all := lw_g (lw_at lw_m9 51 rfl) rfl
theorem q2133 : (Jvm.Cond.soleField "GardenChessModel" "takenAsked") ∈ lw_all := lw_g (lw_at lw_m9 52 rfl) rfl
theorem q2134 : (Jvm.Cond.laysFinal "GardenChessModel" "GardenChessModel" "checkAsked" "[C") ∈ lw_all := lw_g (lw_at lw_m9 53 rfl) rfl
theorem q2135 : (Jvm.Cond.soleField "GardenChessModel" "checkAsked") ∈ lw_all := lw_g (lw_at lw_m9 54 rfl) rfl
theorem q2136 : (Jvm.Cond.laysFinal "GardenChessModel" "GardenChessModel" "offAsked" "[C") ∈ lw_all := lw_g (lw_at lw_m9 55 rfl) rfl
theorem q2137 : (Jvm.Cond.soleField "GardenChessModel" "offAsked") ∈ lw_all := lw_g (lw_at lw_m9 56 rfl) rfl
theorem q2138 : (Jvm.Cond.laysFinal "GardenChessModel" "GardenChessModel" "dayAsked" "[C") ∈ lw_all := lw_g (lw_at lw_m9 57 rfl) rfl
theorem q2139 : (Jvm.Cond.soleField "GardenChessModel" "dayAsked") ∈ lw_all := lw_g (lw_at lw_m9 58 rfl) rfl
theorem q2140 : (Jvm.Cond.laysFinal "GardenChessModel" "GardenChessModel" "numberAsked" "[C") ∈ lw_all := lw_g (lw_at lw_m9 59 rfl) rfl
theorem q2141 : (Jvm.Cond.soleField "GardenChessModel" "numberAsked") ∈ lw_all := lw_g (lw_at lw_m9 60 rfl) rfl
theorem q2142 : (Jvm.Cond.laysFinal "GardenChessModel" "GardenChessModel" "columnAsked" "[C") ∈ lw_all := lw_g (lw_at lw_m9 61 rfl) rfl
theorem q2143 : (Jvm.Cond.soleField "GardenChessModel" "columnAsked") ∈ lw_all := lw_g (lw_at lw_m9 62 rfl) rfl
theorem q2144 : (Jvm.Cond.laysFinal "GardenChessModel" "GardenChessModel" "rowAsked" "[C") ∈ lw_all := lw_g (lw_at lw_m9 63 rfl) rfl
theorem q2145 : (Jvm.Cond.soleField "GardenChessModel" "rowAsked") ∈ lw_all := lw_g (lw_at lw_m9 64 rfl) rfl
theorem q2146 : (Jvm.Cond.laysFinal "GardenChessModel" "GardenChessModel" "sideAsked" "[C") ∈ lw_all := lw_g (lw_at lw_m9 65 rfl) rfl
theorem q2147 : (Jvm.Cond.soleField "GardenChessModel" "sideAsked") ∈ lw_all := lw_g (lw_at lw_m9 66 rfl) rfl
theorem q2148 : (Jvm.Cond.laysFinal "GardenChessModel" "GardenChessModel" "worthAsked" "[C") ∈ lw_all := lw_g (lw_at lw_m9 67 rfl) rfl
theorem q2149 : (Jvm.Cond.soleField "GardenChessModel" "worthAsked") ∈ lw_all := lw_g (lw_at lw_m9 68 rfl) rfl
theorem q2150 : (Jvm.Cond.laysFinal "GardenChessModel" "GardenChessModel" "reachAsked" "[C") ∈ lw_all := lw_g (lw_at lw_m9 69 rfl) rfl
theorem q2151 : (Jvm.Cond.soleField "GardenChessModel" "reachAsked") ∈ lw_all := lw_g (lw_at lw_m9 70 rfl) rfl
theorem q2152 : (Jvm.Cond.laysFinal "GardenChessModel" "GardenChessModel" "movesAsked" "[C") ∈ lw_all := lw_g (lw_at lw_m9 71 rfl) rfl
theorem q2153 : (Jvm.Cond.soleField "GardenChessModel" "movesAsked") ∈ lw_all := lw_g (lw_at lw_m9 72 rfl) rfl
theorem q2154 : (Jvm.Cond.laysFinal "GardenChessModel" "GardenChessModel" "qCodes" "[I") ∈ lw_all := lw_g (lw_at lw_m9 73 rfl) rfl
theorem q2155 : (Jvm.Cond.soleField "GardenChessModel" "qCodes") ∈ lw_all := lw_g (lw_at lw_m9 74 rfl) rfl
theorem q2156 : (Jvm.Cond.lays "GardenChessModel" "GardenChessModel" "qCoded" "I") ∈ lw_all := lw_g (lw_at lw_m9 75 rfl) rfl
theorem q2157 : (Jvm.Cond.soleField "GardenChessModel" "qCoded") ∈ lw_all := lw_g (lw_at lw_m9 76 rfl) rfl
theorem q2158 : (Jvm.Cond.laysFinal "GardenChessModel" "GardenChessModel" "qWait" "[I") ∈ lw_all := lw_g (lw_at lw_m9 77 rfl) rfl
theorem q2159 : (Jvm.Cond.soleField "GardenChessModel" "qWait") ∈ lw_all := lw_g (lw_at lw_m9 78 rfl) rfl
theorem q2160 : (Jvm.Cond.lays "GardenChessModel" "GardenChessModel" "qWaits" "I") ∈ lw_all := lw_g (lw_at lw_m9 79 rfl) rfl
theorem q2161 : (Jvm.Cond.soleField "GardenChessModel" "qWaits") ∈ lw_all := lw_g (lw_at lw_m9 80 rfl) rfl
theorem q2162 : (Jvm.Cond.lays "GardenChessModel" "GardenChessModel" "qOpened" "I") ∈ lw_all := lw_g (lw_at lw_m9 81 rfl) rfl
theorem q2163 : (Jvm.Cond.soleField "GardenChessModel" "qOpened") ∈ lw_all := lw_g (lw_at lw_m9 82 rfl) rfl
theorem q2164 : (Jvm.Cond.lays "GardenChessModel" "GardenChessModel" "qBase" "I") ∈ lw_all := lw_g (lw_at lw_m9 83 rfl) rfl
theorem q2165 : (Jvm.Cond.soleField "GardenChessModel" "qBase") ∈ lw_all := lw_g (lw_at lw_m9 84 rfl) rfl
theorem q2166 : (Jvm.Cond.laysFinal "GardenChessModel" "GardenChessModel" "qPile" "[J") ∈ lw_all := lw_g (lw_at lw_m9 85 rfl) rfl
theorem q2167 : (Jvm.Cond.soleField "GardenChessModel" "qPile") ∈ lw_all := lw_g (lw_at lw_m9 86 rfl) rfl
theorem q2168 : (Jvm.Cond.lays "GardenChessModel" "GardenChessModel" "qPiled" "I") ∈ lw_all := lw_g (lw_at lw_m9 87 rfl) rfl
theorem q2169 : (Jvm.Cond.soleField "GardenChessModel" "qPiled") ∈ lw_all := lw_g (lw_at lw_m9 88 rfl) rfl
theorem q2170 : (Jvm.Cond.lays "GardenChessModel" "GardenChessModel" "qAnswer" "J") ∈ lw_all := lw_g (lw_at lw_m9 89 rfl) rfl
theorem q2171 : (Jvm.Cond.soleField "GardenChessModel" "qAnswer") ∈ lw_all := lw_g (lw_at lw_m9 90 rfl) rfl
theorem q2172 : (Jvm.Cond.lays "GardenChessModel" "GardenChessModel" "qIsNew" "Z") ∈ lw_all := lw_g (lw_at lw_m9 91 rfl) rfl
theorem q2173 : (Jvm.Cond.soleField "GardenChessModel" "qIsNew") ∈ lw_all := lw_g (lw_at lw_m9 92 rfl) rfl
theorem q2174 : (Jvm.Cond.laysFinal "GardenChessModel" "GardenChessModel" "octet" "[I") ∈ lw_all := lw_g (lw_at lw_m9 93 rfl) rfl
theorem q2175 : (Jvm.Cond.soleField "GardenChessModel" "octet") ∈ lw_all := lw_g (lw_at lw_m9 94 rfl) rfl
theorem q2176 : (Jvm.Cond.lays "GardenChessModel" "GardenChessModel" "octets" "I") ∈ lw_all := lw_g (lw_at lw_m9 95 rfl) rfl
theorem q2177 : (Jvm.Cond.soleField "GardenChessModel" "octets") ∈ lw_all := lw_g (lw_at lw_m9 96 rfl) rfl
theorem q2178 : (Jvm.Cond.superclass "GardenChessModel" "java/lang/Object") ∈ lw_all := lw_g (lw_at lw_m9 97 rfl) rfl
theorem q2180 : (Jvm.Cond.instanceMethod ({ cls := "GardenChessModel", name := "feed", desc := "(IIIII)I" } : Jvm.MethodName)) ∈ lw_all := lw_g (lw_at lw_m9 99 rfl) rfl
theorem q2181 : (Jvm.Cond.selects "GardenChessModel" ({ cls := "GardenChessModel", name := "feed", desc := "(IIIII)I" } : Jvm.MethodName) ({ cls := "GardenChessModel", name := "feed", desc := "(IIIII)I" } : Jvm.MethodName)) ∈ lw_all := lw_g (lw_at lw_m9 100 rfl) rfl
theorem q2182 : (Jvm.Cond.code ({ cls := "GardenChessModel", name := "feed", desc := "(IIIII)I" } : Jvm.MethodName) prog_25_method_3_code (8 : Nat) (Option.some Jvm.ClassFile.FieldType.int)) ∈ lw_all := lw_g (lw_at lw_m9 101 rfl) rfl
theorem q2184 : (Jvm.Cond.instanceMethod ({ cls := "GardenChessModel", name := "end", desc := "(I)Z" } : Jvm.MethodName)) ∈ lw_all := lw_g (lw_at lw_m9 103 rfl) rfl
theorem q2185 : (Jvm.Cond.selects "GardenChessModel" ({ cls := "GardenChessModel", name := "end", desc := "(I)Z" } : Jvm.MethodName) ({ cls := "GardenChessModel", name := "end", desc := "(I)Z" } : Jvm.MethodName)) ∈ lw_all := lw_g (lw_at lw_m9 104 rfl) rfl
theorem q2186 : (Jvm.Cond.code ({ cls := "GardenChessModel", name := "end", desc := "(I)Z" } : Jvm.MethodName) prog_25_method_4_code (2 : Nat) (Option.some Jvm.ClassFile.FieldType.boolean)) ∈ lw_all := lw_g (lw_at lw_m9 105 rfl) rfl
theorem q2188 : (Jvm.Cond.instanceMethod ({ cls := "GardenChessModel", name := "board", desc := "()I" } : Jvm.MethodName)) ∈ lw_all := lw_g (lw_at lw_m9 107 rfl) rfl
theorem q2189 : (Jvm.Cond.selects "GardenChessModel" ({ cls := "GardenChessModel", name := "board", desc := "()I" } : Jvm.MethodName) ({ cls := "GardenChessModel", name := "board", desc := "()I" } : Jvm.MethodName)) ∈ lw_all := lw_g (lw_at lw_m9 108 rfl) rfl
theorem q2190 : (Jvm.Cond.code ({ cls := "GardenChessModel", name := "board", desc := "()I" } : Jvm.MethodName) prog_25_method_29_code (2 : Nat) (Option.some Jvm.ClassFile.FieldType.int)) ∈ lw_all := lw_g (lw_at lw_m9 109 rfl) rfl
theorem q2191 : (Jvm.Cond.methodLink "GardenChessModel" (412 : Nat) ({ cls := "GardenChessModel", name := "boardTold", desc := "()V" } : Jvm.MethodName)) ∈ lw_all := lw_g (lw_at lw_m9 110 rfl) rfl
theorem q2192 : (Jvm.Cond.privateMethod ({ cls := "GardenChessModel", name := "boardTold", desc := "()V" } : Jvm.MethodName)) ∈ lw_tbl := lw_at lw_m9 111 rfl
theorem q2193 : (Jvm.Cond.instanceMethod ({ cls := "GardenChessModel", name := "boardTold", desc := "()V" } : Jvm.MethodName)) ∈ lw_all := lw_g (lw_at lw_m9 112 rfl) rfl
theorem q2194 : (Jvm.Cond.code ({ cls := "GardenChessModel", name := "boardTold", desc := "()V" } : Jvm.MethodName) prog_25_method_22_code (1 : Nat) (Option.none : Option Jvm.ClassFile.FieldType)) ∈ lw_all := lw_g (lw_at lw_m9 113 rfl) rfl
theorem q2195 : (Jvm.Cond.methodLink "GardenChessModel" (348 : Nat) ({ cls := "GardenChessModel", name := "asks", desc := "([C)V" } : Jvm.MethodName)) ∈ lw_all := lw_g (lw_at lw_m9 114 rfl) rfl
theorem q2196 : (Jvm.Cond.privateMethod ({ cls := "GardenChessModel", name := "asks", desc := "([C)V" } : Jvm.MethodName)) ∈ lw_tbl := lw_at lw_m9 115 rfl
theorem q2197 : (Jvm.Cond.instanceMethod ({ cls := "GardenChessModel", name := "asks", desc := "([C)V" } : Jvm.MethodName)) ∈ lw_all := lw_g (lw_at lw_m9 116 rfl) rfl
theorem q2198 : (Jvm.Cond.code ({ cls := "GardenChessModel", name := "asks", desc := "([C)V" } : Jvm.MethodName) prog_25_method_11_code (2 : Nat) (Option.none : Option Jvm.ClassFile.FieldType)) ∈ lw_all := lw_g (lw_at lw_m9 117 rfl) rfl
theorem q2199 : (Jvm.Cond.methodLink "GardenChessModel" (305 : Nat) ({ cls := "GardenChessModel", name := "takes", desc := "([C)Z" } : Jvm.MethodName)) ∈ lw_all := lw_g (lw_at lw_m9 118 rfl) rfl
theorem q2200 : (Jvm.Cond.privateMethod ({ cls := "GardenChessModel", name := "takes", desc := "([C)Z" } : Jvm.MethodName)) ∈ lw_tbl := lw_at lw_m9 119 rfl
theorem q2201 : (Jvm.Cond.instanceMethod ({ cls := "GardenChessModel", name := "takes", desc := "([C)Z" } : Jvm.MethodName)) ∈ lw_all := lw_g (lw_at lw_m9 120 rfl) rfl
theorem q2202 : (Jvm.Cond.code ({ cls := "GardenChessModel", name := "takes", desc := "([C)Z" } : Jvm.MethodName) prog_25_method_10_code (2 : Nat) (Option.some Jvm.ClassFile.FieldType.boolean)) ∈ lw_all := lw_g (lw_at lw_m9 121 rfl) rfl
theorem q2203 : (Jvm.Cond.methodLink "GardenChessModel" (301 : Nat) ({ cls := "GardenChessModel", name := "isHere", desc := "([C)Z" } : Jvm.MethodName)) ∈ lw_all := lw_g (lw_at lw_m9 122 rfl) rfl
theorem q2204 : (Jvm.Cond.privateMethod ({ cls := "GardenChessModel", name := "isHere", desc := "([C)Z" } : Jvm.MethodName)) ∈ lw_tbl := lw_at lw_m9 123 rfl
theorem q2205 : (Jvm.Cond.instanceMethod ({ cls := "GardenChessModel", name := "isHere", desc := "([C)Z" } : Jvm.MethodName)) ∈ lw_all := lw_g (lw_at lw_m9 124 rfl) rfl
theorem q2206 : (Jvm.Cond.code ({ cls := "GardenChessModel", name := "isHere", desc := "([C)Z" } : Jvm.MethodName) prog_25_method_9_code (4 : Nat) (Option.some Jvm.ClassFile.FieldType.boolean)) ∈ lw_all := lw_g (lw_at lw_m9 125 rfl) rfl
theorem q2207 : (Jvm.Cond.methodLink "GardenChessModel" (290 : Nat) ({ cls := "GardenChessModel", name := "look", desc := "()I" } : Jvm.MethodName)) ∈ lw_all := lw_g (lw_at lw_m9 126 rfl) rfl
theorem q2208 : (Jvm.Cond.privateMethod ({ cls := "GardenChessModel", name := "look", desc := "()I" } : Jvm.MethodName)) ∈ lw_tbl := lw_at lw_m9 127 rfl
theorem q2209 : (Jvm.Cond.instanceMethod ({ cls := "GardenChessModel", name := "look", desc := "()I" } : Jvm.MethodName)) ∈ lw_all := lw_g (lw_at lw_m9 128 rfl) rfl
theorem q2210 : (Jvm.Cond.code ({ cls := "GardenChessModel", name := "look", desc := "()I" } : Jvm.MethodName) prog_25_method_8_code (1 : Nat) (Option.some Jvm.ClassFile.FieldType.int)) ∈ lw_all := lw_g (lw_at lw_m9 129 rfl) rfl
theorem q2211 : (Jvm.Cond.methodLink "GardenChessModel" (294 : Nat) ({ cls := "GardenChessModel", name := "isLetter", desc := "(I)Z" } : Jvm.MethodName)) ∈ lw_all := lw_g (lw_at lw_m9 130 rfl) rfl
theorem q2212 : (Jvm.Cond.static ({ cls := "GardenChessModel", name := "isLetter", desc := "(I)Z" } : Jvm.MethodName)) ∈ lw_all := lw_g (lw_at lw_m9 131 rfl) rfl
theorem q2213 : (Jvm.Cond.code ({ cls := "GardenChessModel", name := "isLetter", desc := "(I)Z" } : Jvm.MethodName) prog_25_method_6_code (1 : Nat) (Option.some Jvm.ClassFile.FieldType.boolean)) ∈ lw_all := lw_g (lw_at lw_m9 132 rfl) rfl
theorem q2214 : (Jvm.Cond.methodLink "GardenChessModel" (308 : Nat) ({ cls := "GardenChessModel", name := "fail", desc := "(II)V" } : Jvm.MethodName)) ∈ lw_all := lw_g (lw_at lw_m9 133 rfl) rfl
theorem q2215 : (Jvm.Cond.privateMethod ({ cls := "GardenChessModel", name := "fail", desc := "(II)V" } : Jvm.MethodName)) ∈ lw_tbl := lw_at lw_m9 134 rfl
theorem q2216 : (Jvm.Cond.instanceMethod ({ cls := "GardenChessModel", name := "fail", desc := "(II)V" } : Jvm.MethodName)) ∈ lw_all := lw_g (lw_at lw_m9 135 rfl) rfl
theorem q2217 : (Jvm.Cond.code ({ cls := "GardenChessModel", name := "fail", desc := "(II)V" } : Jvm.MethodName) prog_25_method_5_code (3 : Nat) (Option.none : Option Jvm.ClassFile.FieldType)) ∈ lw_all := lw_g (lw_at lw_m9 136 rfl) rfl
theorem q2218 : (Jvm.Cond.methodLink "GardenChessModel" (352 : Nat) ({ cls := "GardenChessModel", name := "number", desc := "(II)I" } : Jvm.MethodName)) ∈ lw_all := lw_g (lw_at lw_m9 137 rfl) rfl
theorem q2219 : (Jvm.Cond.privateMethod ({ cls := "GardenChessModel", name := "number", desc := "(II)I" } : Jvm.MethodName)) ∈ lw_tbl := lw_at lw_m9 138 rfl
theorem q2220 : (Jvm.Cond.instanceMethod ({ cls := "GardenChessModel", name := "number", desc := "(II)I" } : Jvm.MethodName)) ∈ lw_all := lw_g (lw_at lw_m9 139 rfl) rfl
theorem q2221 : (Jvm.Cond.code ({ cls := "GardenChessModel", name := "number", desc := "(II)I" } : Jvm.MethodName) prog_25_method_14_code (5 : Nat) (Option.some Jvm.ClassFile.FieldType.int)) ∈ lw_all := lw_g (lw_at lw_m9 140 rfl) rfl
theorem q2222 : (Jvm.Cond.methodLink "GardenChessModel" (315 : Nat) ({ cls := "GardenChessModel", name := "isDigit", desc := "(I)Z" } : Jvm.MethodName)) ∈ lw_all := lw_g (lw_at lw_m9 141 rfl) rfl
theorem q2223 : (Jvm.Cond.static ({ cls := "GardenChessModel", name := "isDigit", desc := "(I)Z" } : Jvm.MethodName)) ∈ lw_all := lw_g (lw_at lw_m9 142 rfl) rfl
theorem q2224 : (Jvm.Cond.code ({ cls := "GardenChessModel", name := "isDigit", desc := "(I)Z" } : Jvm.MethodName) prog_25_method_7_code (1 : Nat) (Option.some Jvm.ClassFile.FieldType.boolean)) ∈ lw_all := lw_g (lw_at lw_m9 143 rfl) rfl
theorem q2225 : (Jvm.Cond.methodLink "GardenChessModel" (321 : Nat) ({ cls := "GardenChessModel", name := "isIn", desc := "(JJJ)Z" } : Jvm.MethodName)) ∈ lw_all := lw_g (lw_at lw_m9 144 rfl) rfl
theorem q2226 : (Jvm.Cond.static ({ cls := "GardenChessModel", name := "isIn", desc := "(JJJ)Z" } : Jvm.MethodName)) ∈ lw_all := lw_g (lw_at lw_m9 145 rfl) rfl
theorem q2227 : (Jvm.Cond.code ({ cls := "GardenChessModel", name := "isIn", desc := "(JJJ)Z" } : Jvm.MethodName) prog_25_method_2_code (6 : Nat) (Option.some Jvm.ClassFile.FieldType.boolean)) ∈ lw_all := lw_g (lw_at lw_m9 146 rfl) rfl
theorem q2228 : (Jvm.Cond.methodLink "GardenChessModel" (356 : Nat) ({ cls := "GardenChessModel", name := "asksSign", desc := "(I)V" } : Jvm.MethodName)) ∈ lw_all := lw_g (lw_at lw_m9 147 rfl) rfl
theorem q2229 : (Jvm.Cond.privateMethod ({ cls := "GardenChessModel", name := "asksSign", desc := "(I)V" } : Jvm.MethodName)) ∈ lw_tbl := lw_at lw_m9 148 rfl
theorem q2230 : (Jvm.Cond.instanceMethod ({ cls := "GardenChessModel", name := "asksSign", desc := "(I)V" } : Jvm.MethodName)) ∈ lw_all := lw_g (lw_at lw_m9 149 rfl) rfl
theorem q2231 : (Jvm.Cond.code ({ cls := "GardenChessModel", name := "asksSign", desc := "(I)V" } : Jvm.MethodName) prog_25_method_13_code (2 : Nat) (Option.none : Option Jvm.ClassFile.FieldType)) ∈ lw_all := lw_g (lw_at lw_m9 150 rfl) rfl
theorem q2232 : (Jvm.Cond.methodLink "GardenChessModel" (312 : Nat) ({ cls := "GardenChessModel", name := "takesSign", desc := "(I)Z" } : Jvm.MethodName)) ∈ lw_all := lw_g (lw_at lw_m9 151 rfl) rfl
theorem q2233 : (Jvm.Cond.privateMethod ({ cls := "GardenChessModel", name := "takesSign", desc := "(I)Z" } : Jvm.MethodName)) ∈ lw_tbl := lw_at lw_m9 152 rfl
theorem q2234 : (Jvm.Cond.instanceMethod ({ cls := "GardenChessModel", name := "takesSign", desc := "(I)Z" } : Jvm.MethodName)) ∈ lw_all := lw_g (lw_at lw_m9 153 rfl) rfl
theorem q2235 : (Jvm.Cond.code ({ cls := "GardenChessModel", name := "takesSign", desc := "(I)Z" } : Jvm.MethodName) prog_25_method_12_code (2 : Nat) (Option.some Jvm.ClassFile.FieldType.boolean)) ∈ lw_all := lw_g (lw_at lw_m9 154 rfl) rfl
theorem q2236 : (Jvm.Cond.methodLink "GardenChessModel" (415 : Nat) ({ cls := "GardenChessModel", name := "statementTold", desc := "()V" } : Jvm.MethodName)) ∈ lw_all := lw_g (lw_at lw_m9 155 rfl) rfl
theorem q2237 : (Jvm.Cond.privateMethod ({ cls := "GardenChessModel", name := "statementTold", desc := "()V" } : Jvm.MethodName)) ∈ lw_tbl := lw_at lw_m9 156 rfl
theorem q2238 : (Jvm.Cond.instanceMethod ({ cls := "GardenChessModel", name := "statementTold", desc := "()V" } : Jvm.MethodName)) ∈ lw_all := lw_g (lw_at lw_m9 157 rfl) rfl
theorem q2239 : (Jvm.Cond.code ({ cls := "GardenChessModel", name := "statementTold", desc := "()V" } : Jvm.MethodName) prog_25_method_28_code (2 : Nat) (Option.none : Option Jvm.ClassFile.FieldType)) ∈ lw_all := lw_g (lw_at lw_m9 158 rfl) rfl
theorem q2240 : (Jvm.Cond.methodLink "GardenChessModel" (400 : Nat) ({ cls := "GardenChessModel", name := "kindTold", desc := "(I)V" } : Jvm.MethodName)) ∈ lw_all := lw_g (lw_at lw_m9 159 rfl) rfl
theorem q2241 : (Jvm.Cond.privateMethod ({ cls := "GardenChessModel", name := "kindTold", desc := "(I)V" } : Jvm.MethodName)) ∈ lw_tbl := lw_at lw_m9 160 rfl
theorem q2242 : (Jvm.Cond.instanceMethod ({ cls := "GardenChessModel", name := "kindTold", desc := "(I)V" } : Jvm.MethodName)) ∈ lw_all := lw_g (lw_at lw_m9 161 rfl) rfl
theorem q2243 : (Jvm.Cond.code ({ cls := "GardenChessModel", name := "kindTold", desc := "(I)V" } : Jvm.MethodName) prog_25_method_23_code (9 : Nat) (Option.none : Option Jvm.ClassFile.FieldType)) ∈ lw_all := lw_g (lw_at lw_m9 162 rfl) rfl
theorem q2244 : (Jvm.Cond.methodLink "GardenChessModel" (360 : Nat) ({ cls := "GardenChessModel", name := "isFull", desc := "(III)Z" } : Jvm.MethodName)) ∈ lw_all := lw_g (lw_at lw_m9 163 rfl) rfl
theorem q2245 : (Jvm.Cond.privateMethod ({ cls := "GardenChessModel", name := "isFull", desc := "(III)Z" } : Jvm.MethodName)) ∈ lw_tbl := lw_at lw_m9 164 rfl
theorem q2246 : (Jvm.Cond.instanceMethod ({ cls := "GardenChessModel", name := "isFull", desc := "(III)Z" } : Jvm.MethodName)) ∈ lw_all := lw_g (lw_at lw_m9 165 rfl) rfl
theorem q2247 : (Jvm.Cond.code ({ cls := "GardenChessModel", name := "isFull", desc := "(III)Z" } : Jvm.MethodName) prog_25_method_18_code (4 : Nat) (Option.some Jvm.ClassFile.FieldType.boolean)) ∈ lw_all := lw_g (lw_at lw_m9 166 rfl) rfl
theorem q2248 : (Jvm.Cond.methodLink "GardenChessModel" (364 : Nat) ({ cls := "GardenChessModel", name := "newName", desc := "()J" } : Jvm.MethodName)) ∈ lw_all := lw_g (lw_at lw_m9 167 rfl) rfl
theorem q2249 : (Jvm.Cond.privateMethod ({ cls := "GardenChessModel", name := "newName", desc := "()J" } : Jvm.MethodName)) ∈ lw_tbl := lw_at lw_m9 168 rfl
theorem q2250 : (Jvm.Cond.instanceMethod ({ cls := "GardenChessModel", name := "newName", desc := "()J" } : Jvm.MethodName)) ∈ lw_all := lw_g (lw_at lw_m9 169 rfl) rfl
theorem q2251 : (Jvm.Cond.code ({ cls := "GardenChessModel", name := "newName", desc := "()J" } : Jvm.MethodName) prog_25_method_20_code (4 : Nat) (Option.some Jvm.ClassFile.FieldType.long)) ∈ lw_all := lw_g (lw_at lw_m9 170 rfl) rfl
theorem q2252 : (Jvm.Cond.methodLink "GardenChessModel" (340 : Nat) ({ cls := "GardenChessModel", name := "name", desc := "()J" } : Jvm.MethodName)) ∈ lw_all := lw_g (lw_at lw_m9 171 rfl) rfl
theorem q2253 : (Jvm.Cond.privateMethod ({ cls := "GardenChessModel", name := "name", desc := "()J" } : Jvm.MethodName)) ∈ lw_tbl := lw_at lw_m9 172 rfl
theorem q2254 : (Jvm.Cond.instanceMethod ({ cls := "GardenChessModel", name := "name", desc := "()J" } : Jvm.MethodName)) ∈ lw_all := lw_g (lw_at lw_m9 173 rfl) rfl
theorem q2255 : (Jvm.Cond.code ({ cls := "GardenChessModel", name := "name", desc := "()J" } : Jvm.MethodName) prog_25_method_16_code (3 : Nat) (Option.some Jvm.ClassFile.FieldType.long)) ∈ lw_all := lw_g (lw_at lw_m9 174 rfl) rfl
theorem q2256 : (Jvm.Cond.methodLink "GardenChessModel" (325 : Nat) ({ cls := "GardenChessModel", name := "isOwnHere", desc := "()Z" } : Jvm.MethodName)) ∈ lw_all := lw_g (lw_at lw_m9 175 rfl) rfl
theorem q2257 : (Jvm.Cond.privateMethod ({ cls := "GardenChessModel", name := "isOwnHere", desc := "()Z" } : Jvm.MethodName)) ∈ lw_tbl := lw_at lw_m9 176 rfl
theorem q2258 : (Jvm.Cond.instanceMethod ({ cls := "GardenChessModel", name := "isOwnHere", desc := "()Z" } : Jvm.MethodName)) ∈ lw_all := lw_g (lw_at lw_m9 177 rfl) rfl
theorem q2259 : (Jvm.Cond.code ({ cls := "GardenChessModel", name := "isOwnHere", desc := "()Z" } : Jvm.MethodName) prog_25_method_15_code (2 : Nat) (Option.some Jvm.ClassFile.FieldType.boolean)) ∈ lw_all := lw_g (lw_at lw_m9 178 rfl) rfl
theorem q2260 : (Jvm.Cond.constantLong "GardenChessModel" (332 : Nat) (27 : Int64)) ∈ lw_all := lw_g (lw_at lw_m9 179 rfl) rfl
theorem q2261 : (Jvm.Cond.constantLong "GardenChessModel" (334 : Nat) (97 : Int64)) ∈ lw_all := lw_g (lw_at lw_m9 180 rfl) rfl
theorem q2262 : (Jvm.Cond.methodLink "GardenChessModel" (344 : Nat) ({ cls := "GardenChessModel", name := "nameOf", desc := "(IJ)I" } : Jvm.MethodName)) ∈ lw_all := lw_g (lw_at lw_m9 181 rfl) rfl
theorem q2263 : (Jvm.Cond.privateMethod ({ cls := "GardenChessModel", name := "nameOf", desc := "(IJ)I" } : Jvm.MethodName)) ∈ lw_tbl := lw_at lw_m9 182 rfl
theorem q2264 : (Jvm.Cond.instanceMethod ({ cls := "GardenChessModel", name := "nameOf", desc := "(IJ)I" } : Jvm.MethodName)) ∈ lw_all := lw_g (lw_at lw_m9 183 rfl) rfl
theorem q2265 : (Jvm.Cond.code ({ cls := "GardenChessModel", name := "nameOf", desc := "(IJ)I" } : Jvm.MethodName) prog_25_method_19_code (5 : Nat) (Option.some Jvm.ClassFile.FieldType.int)) ∈ lw_all := lw_g (lw_at lw_m9 184 rfl) rfl
theorem q2266 : (Jvm.Cond.methodLink "GardenChessModel" (367 : Nat) ({ cls := "GardenChessModel", name := "adds", desc := "(IJ)I" } : Jvm.MethodName)) ∈ lw_all := lw_g (lw_at lw_m9 185 rfl) rfl
theorem q2267 : (Jvm.Cond.privateMethod ({ cls := "GardenChessModel", name := "adds", desc := "(IJ)I" } : Jvm.MethodName)) ∈ lw_tbl := lw_at lw_m9 186 rfl
theorem q2268 : (Jvm.Cond.instanceMethod ({ cls := "GardenChessModel", name := "adds", desc := "(IJ)I" } : Jvm.MethodName)) ∈ lw_all := lw_g (lw_at lw_m9 187 rfl) rfl
theorem q2269 : (Jvm.Cond.code ({ cls := "GardenChessModel", name := "adds", desc := "(IJ)I" } : Jvm.MethodName) prog_25_method_21_code (4 : Nat) (Option.some Jvm.ClassFile.FieldType.int)) ∈ lw_all := lw_g (lw_at lw_m9 188 rfl) rfl
theorem q2270 : (Jvm.Cond.methodLink "GardenChessModel" (403 : Nat) ({ cls := "GardenChessModel", name := "manTold", desc := "(I)V" } : Jvm.MethodName)) ∈ lw_all := lw_g (lw_at lw_m9 189 rfl) rfl
theorem q2271 : (Jvm.Cond.privateMethod ({ cls := "GardenChessModel", name := "manTold", desc := "(I)V" } : Jvm.MethodName)) ∈ lw_tbl := lw_at lw_m9 190 rfl
theorem q2272 : (Jvm.Cond.instanceMethod ({ cls := "GardenChessModel", name := "manTold", desc := "(I)V" } : Jvm.MethodName)) ∈ lw_all := lw_g (lw_at lw_m9 191 rfl) rfl
theorem q2273 : (Jvm.Cond.code ({ cls := "GardenChessModel", name := "manTold", desc := "(I)V" } : Jvm.MethodName) prog_25_method_25_code (9 : Nat) (Option.none : Option Jvm.ClassFile.FieldType)) ∈ lw_all := lw_g (lw_at lw_m9 192 rfl) rfl
theorem q2274 : (Jvm.Cond.methodLink "GardenChessModel" (376 : Nat) ({ cls := "GardenChessModel", name := "placeTold", desc := "()V" } : Jvm.MethodName)) ∈ lw_all := lw_g (lw_at lw_m9 193 rfl) rfl
theorem q2275 : (Jvm.Cond.privateMethod ({ cls := "GardenChessModel", name := "placeTold", desc := "()V" } : Jvm.MethodName)) ∈ lw_tbl := lw_at lw_m9 194 rfl
theorem q2276 : (Jvm.Cond.instanceMethod ({ cls := "GardenChessModel", name := "placeTold", desc := "()V" } : Jvm.MethodName)) ∈ lw_all := lw_g (lw_at lw_m9 195 rfl) rfl
theorem q2277 : (Jvm.Cond.code ({ cls := "GardenChessModel", name := "placeTold", desc := "()V" } : Jvm.MethodName) prog_25_method_24_code (1 : Nat) (Option.none : Option Jvm.ClassFile.FieldType)) ∈ lw_all := lw_g (lw_at lw_m9 196 rfl) rfl
theorem q2278 : (Jvm.Cond.methodLink "GardenChessModel" (406 : Nat) ({ cls := "GardenChessModel", name := "fieldTold", desc := "(I)V" } : Jvm.MethodName)) ∈ lw_all := lw_g (lw_at lw_m9 197 rfl) rfl
theorem q2279 : (Jvm.Cond.privateMethod ({ cls := "GardenChessModel", name := "fieldTold", desc := "(I)V" } : Jvm.MethodName)) ∈ lw_tbl := lw_at lw_m9 198 rfl
theorem q2280 : (Jvm.Cond.instanceMethod ({ cls := "GardenChessModel", name := "fieldTold", desc := "(I)V" } : Jvm.MethodName)) ∈ lw_all := lw_g (lw_at lw_m9 199 rfl) rfl
theorem q2281 : (Jvm.Cond.code ({ cls := "GardenChessModel", name := "fieldTold", desc := "(I)V" } : Jvm.MethodName) prog_25_method_26_code (6 : Nat) (Option.none : Option Jvm.ClassFile.FieldType)) ∈ lw_all := lw_g (lw_at lw_m9 200 rfl) rfl
theorem q2282 : (Jvm.Cond.methodLink "GardenChessModel" (409 : Nat) ({ cls := "GardenChessModel", name := "harmTold", desc := "(I)V" } : Jvm.MethodName)) ∈ lw_all := lw_g (lw_at lw_m9 201 rfl) rfl
theorem q2283 : (Jvm.Cond.privateMethod ({ cls := "GardenChessModel", name := "harmTold", desc := "(I)V" } : Jvm.MethodName)) ∈ lw_tbl := lw_at lw_m9 202 rfl
theorem q2284 : (Jvm.Cond.instanceMethod ({ cls := "GardenChessModel", name := "harmTold", desc := "(I)V" } : Jvm.MethodName)) ∈ lw_all := lw_g (lw_at lw_m9 203 rfl) rfl
theorem q2285 : (Jvm.Cond.code ({ cls := "GardenChessModel", name := "harmTold", desc := "(I)V" } : Jvm.MethodName) prog_25_method_27_code (3 : Nat) (Option.none : Option Jvm.ClassFile.FieldType)) ∈ lw_all := lw_g (lw_at lw_m9 204 rfl) rfl
theorem q2286 : (Jvm.Cond.methodLink "GardenChessModel" (391 : Nat) ({ cls := "GardenChessModel", name := "qSums", desc := "()V" } : Jvm.MethodName)) ∈ lw_all := lw_g (lw_at lw_m9 205 rfl) rfl
theorem q2287 : (Jvm.Cond.privateMethod ({ cls := "GardenChessModel", name := "qSums", desc := "()V" } : Jvm.MethodName)) ∈ lw_tbl := lw_at lw_m9 206 rfl
theorem q2288 : (Jvm.Cond.instanceMethod ({ cls := "GardenChessModel", name := "qSums", desc := "()V" } : Jvm.MethodName)) ∈ lw_all := lw_g (lw_at lw_m9 207 rfl) rfl
theorem q2289 : (Jvm.Cond.code ({ cls := "GardenChessModel", name := "qSums", desc := "()V" } : Jvm.MethodName) prog_25_method_129_code (3 : Nat) (Option.none : Option Jvm.ClassFile.FieldType)) ∈ lw_all := lw_g (lw_at lw_m9 208 rfl) rfl
theorem q2290 : (Jvm.Cond.methodLink "GardenChessModel" (715 : Nat) ({ cls := "GardenChessModel", name := "qPartTold", desc := "()V" } : Jvm.MethodName)) ∈ lw_all := lw_g (lw_at lw_m9 209 rfl) rfl
theorem q2291 : (Jvm.Cond.privateMethod ({ cls := "GardenChessModel", name := "qPartTold", desc := "()V" } : Jvm.MethodName)) ∈ lw_tbl := lw_at lw_m9 210 rfl
theorem q2292 : (Jvm.Cond.instanceMethod ({ cls := "GardenChessModel", name := "qPartTold", desc := "()V" } : Jvm.MethodName)) ∈ lw_all := lw_g (lw_at lw_m9 211 rfl) rfl
theorem q2293 : (Jvm.Cond.code ({ cls := "GardenChessModel", name := "qPartTold", desc := "()V" } : Jvm.MethodName) prog_25_method_127_code (6 : Nat) (Option.none : Option Jvm.ClassFile.FieldType)) ∈ lw_all := lw_g (lw_at lw_m9 212 rfl) rfl
theorem q2294 : (Jvm.Cond.methodLink "GardenChessModel" (694 : Nat) ({ cls := "GardenChessModel", name := "qWordOf", desc := "(II)I" } : Jvm.MethodName)) ∈ lw_all := lw_g (lw_at lw_m9 213 rfl) rfl
theorem q2295 : (Jvm.Cond.privateMethod ({ cls := "GardenChessModel", name := "qWordOf", desc := "(II)I" } : Jvm.MethodName)) ∈ lw_tbl := lw_at lw_m9 214 rfl
theorem q2296 : (Jvm.Cond.instanceMethod ({ cls := "GardenChessModel", name := "qWordOf", desc := "(II)I" } : Jvm.MethodName)) ∈ lw_all := lw_g (lw_at lw_m9 215 rfl) rfl
theorem q2297 : (Jvm.Cond.code ({ cls := "GardenChessModel", name := "qWordOf", desc := "(II)I" } : Jvm.MethodName) prog_25_method_124_code (4 : Nat) (Option.some Jvm.ClassFile.FieldType.int)) ∈ lw_all := lw_g (lw_at lw_m9 216 rfl) rfl
theorem q2298 : (Jvm.Cond.methodLink "GardenChessModel" (688 : Nat) ({ cls := "GardenChessModel", name := "qWordHere", desc := "()I" } : Jvm.MethodName)) ∈ lw_all := lw_g (lw_at lw_m9 217 rfl) rfl
theorem q2299 : (Jvm.Cond.privateMethod ({ cls := "GardenChessModel", name := "qWordHere", desc := "()I" } : Jvm.MethodName)) ∈ lw_tbl := lw_at lw_m9 218 rfl
theorem q2300 : (Jvm.Cond.instanceMethod ({ cls := "GardenChessModel", name := "qWordHere", desc := "()I" } : Jvm.MethodName)) ∈ lw_all := lw_g (lw_at lw_m9 219 rfl) rfl
theorem q2301 : (Jvm.Cond.code ({ cls := "GardenChessModel", name := "qWordHere", desc := "()I" } : Jvm.MethodName) prog_25_method_123_code (1 : Nat) (Option.some Jvm.ClassFile.FieldType.int)) ∈ lw_all := lw_g (lw_at lw_m9 220 rfl) rfl
theorem q2302 : (Jvm.Cond.methodLink "GardenChessModel" (691 : Nat) ({ cls := "GardenChessModel", name := "isAllowed", desc := "(I)Z" } : Jvm.MethodName)) ∈ lw_all := lw_g (lw_at lw_m9 221 rfl) rfl
theorem q2303 : (Jvm.Cond.privateMethod ({ cls := "GardenChessModel", name := "isAllowed", desc := "(I)Z" } : Jvm.MethodName)) ∈ lw_tbl := lw_at lw_m9 222 rfl
theorem q2304 : (Jvm.Cond.instanceMethod ({ cls := "GardenChessModel", name := "isAllowed", desc := "(I)Z" } : Jvm.MethodName)) ∈ lw_all := lw_g (lw_at lw_m9 223 rfl) rfl
theorem q2305 : (Jvm.Cond.code ({ cls := "GardenChessModel", name := "isAllowed", desc := "(I)Z" } : Jvm.MethodName) prog_25_method_17_code (2 : Nat) (Option.some Jvm.ClassFile.FieldType.boolean)) ∈ lw_all := lw_g (lw_at lw_m9 224 rfl) rfl
theorem q2306 : (Jvm.Cond.methodLink "GardenChessModel" (697 : Nat) ({ cls := "GardenChessModel", name := "qOpens", desc := "(II)V" } : Jvm.MethodName)) ∈ lw_all := lw_g (lw_at lw_m9 225 rfl) rfl
theorem q2307 : (Jvm.Cond.privateMethod ({ cls := "GardenChessModel", name := "qOpens", desc := "(II)V" } : Jvm.MethodName)) ∈ lw_tbl := lw_at lw_m9 226 rfl
theorem q2308 : (Jvm.Cond.instanceMethod ({ cls := "GardenChessModel", name := "qOpens", desc := "(II)V" } : Jvm.MethodName)) ∈ lw_all := lw_g (lw_at lw_m9 227 rfl) rfl
theorem q2309 : (Jvm.Cond.code ({ cls := "GardenChessModel", name := "qOpens", desc := "(II)V" } : Jvm.MethodName) prog_25_method_117_code (3 : Nat) (Option.none : Option Jvm.ClassFile.FieldType)) ∈ lw_all := lw_g (lw_at lw_m9 228 rfl) rfl
theorem q2310 : (Jvm.Cond.methodLink "GardenChessModel" (700 : Nat) ({ cls := "GardenChessModel", name := "qAsksWord", desc := "(I)V" } : Jvm.MethodName)) ∈ lw_all := lw_g (lw_at lw_m9 229 rfl) rfl
theorem q2311 : (Jvm.Cond.privateMethod ({ cls := "GardenChessModel", name := "qAsksWord", desc := "(I)V" } : Jvm.MethodName)) ∈ lw_tbl := lw_at lw_m9 230 rfl
theorem q2312 : (Jvm.Cond.instanceMethod ({ cls := "GardenChessModel", name := "qAsksWord", desc := "(I)V" } : Jvm.MethodName)) ∈ lw_all := lw_g (lw_at lw_m9 231 rfl) rfl
theorem q2313 : (Jvm.Cond.code ({ cls := "GardenChessModel", name := "qAsksWord", desc := "(I)V" } : Jvm.MethodName) prog_25_method_125_code (2 : Nat) (Option.none : Option Jvm.ClassFile.FieldType)) ∈ lw_all := lw_g (lw_at lw_m9 232 rfl) rfl
theorem q2314 : (Jvm.Cond.methodLink "GardenChessModel" (679 : Nat) ({ cls := "GardenChessModel", name := "qCode", desc := "(I)V" } : Jvm.MethodName)) ∈ lw_all := lw_g (lw_at lw_m9 233 rfl) rfl
theorem q2315 : (Jvm.Cond.privateMethod ({ cls := "GardenChessModel", name := "qCode", desc := "(I)V" } : Jvm.MethodName)) ∈ lw_tbl := lw_at lw_m9 234 rfl
theorem q2316 : (Jvm.Cond.instanceMethod ({ cls := "GardenChessModel", name := "qCode", desc := "(I)V" } : Jvm.MethodName)) ∈ lw_all := lw_g (lw_at lw_m9 235 rfl) rfl
theorem q2317 : (Jvm.Cond.code ({ cls := "GardenChessModel", name := "qCode", desc := "(I)V" } : Jvm.MethodName) prog_25_method_116_code (2 : Nat) (Option.none : Option Jvm.ClassFile.FieldType)) ∈ lw_all := lw_g (lw_at lw_m9 236 rfl) rfl
theorem q2318 : (Jvm.Cond.methodLink "GardenChessModel" (703 : Nat) ({ cls := "GardenChessModel", name := "qEndsPart", desc := "()V" } : Jvm.MethodName)) ∈ lw_all := lw_g (lw_at lw_m9 237 rfl) rfl
theorem q2319 : (Jvm.Cond.privateMethod ({ cls := "GardenChessModel", name := "qEndsPart", desc := "()V" } : Jvm.MethodName)) ∈ lw_tbl := lw_at lw_m9 238 rfl
theorem q2320 : (Jvm.Cond.instanceMethod ({ cls := "GardenChessModel", name := "qEndsPart", desc := "()V" } : Jvm.MethodName)) ∈ lw_all := lw_g (lw_at lw_m9 239 rfl) rfl
theorem q2321 : (Jvm.Cond.code ({ cls := "GardenChessModel", name := "qEndsPart", desc := "()V" } : Jvm.MethodName) prog_25_method_126_code (1 : Nat) (Option.none : Option Jvm.ClassFile.FieldType)) ∈ lw_all := lw_g (lw_at lw_m10 0 rfl) rfl
theorem q2322 : (Jvm.Cond.methodLink "GardenChessModel" (685 : Nat) ({ cls := "GardenChessModel", name := "qDrops", desc := "()V" } : Jvm.MethodName)) ∈ lw_all := lw_g (lw_at lw_m10 1 rfl) rfl
theorem q2323 : (Jvm.Cond.privateMethod ({ cls := "GardenChessModel", name := "qDrops", desc := "()V" } : Jvm.MethodName)) ∈ lw_tbl := lw_at lw_m10 2 rfl
theorem q2324 : (Jvm.Cond.instanceMethod ({ cls := "GardenChessModel", name := "qDrops", desc := "()V" } : Jvm.MethodName)) ∈ lw_all := lw_g (lw_at lw_m10 3 rfl) rfl
theorem q2325 : (Jvm.Cond.code ({ cls := "GardenChessModel", name := "qDrops", desc := "()V" } : Jvm.MethodName) prog_25_method_119_code (1 : Nat) (Option.none : Option Jvm.ClassFile.FieldType)) ∈ lw_all := lw_g (lw_at lw_m10 4 rfl) rfl
theorem q2326 : (Jvm.Cond.methodLink "GardenChessModel" (718 : Nat) ({ cls := "GardenChessModel", name := "qGoesOn", desc := "()Z" } : Jvm.MethodName)) ∈ lw_all := lw_g (lw_at lw_m10 5 rfl) rfl
theorem q2327 : (Jvm.Cond.privateMethod ({ cls := "GardenChessModel", name := "qGoesOn", desc := "()Z" } : Jvm.MethodName)) ∈ lw_tbl := lw_at lw_m10 6 rfl
theorem q2328 : (Jvm.Cond.instanceMethod ({ cls := "GardenChessModel", name := "qGoesOn", desc := "()Z" } : Jvm.MethodName)) ∈ lw_all := lw_g (lw_at lw_m10 7 rfl) rfl
theorem q2329 : (Jvm.Cond.code ({ cls := "GardenChessModel", name := "qGoesOn", desc := "()Z" } : Jvm.MethodName) prog_25_method_128_code (2 : Nat) (Option.some Jvm.ClassFile.FieldType.boolean)) ∈ lw_all := lw_g (lw_at lw_m10 8 rfl) rfl
theorem q2330 : (Jvm.Cond.methodLink "GardenChessModel" (706 : Nat) ({ cls := "GardenChessModel", name := "qBracket", desc := "()I" } : Jvm.MethodName)) ∈ lw_all := lw_g (lw_at lw_m10 9 rfl) rfl
theorem q2331 : (Jvm.Cond.privateMethod ({ cls := "GardenChessModel", name := "qBracket", desc := "()I" } : Jvm.MethodName)) ∈ lw_tbl := lw_at lw_m10 10 rfl
theorem q2332 : (Jvm.Cond.instanceMethod ({ cls := "GardenChessModel", name := "qBracket", desc := "()I" } : Jvm.MethodName)) ∈ lw_all := lw_g (lw_at lw_m10 11 rfl) rfl
theorem q2333 : (Jvm.Cond.code ({ cls := "GardenChessModel", name := "qBracket", desc := "()I" } : Jvm.MethodName) prog_25_method_121_code (2 : Nat) (Option.some Jvm.ClassFile.FieldType.int)) ∈ lw_all := lw_g (lw_at lw_m10 12 rfl) rfl
theorem q2334 : (Jvm.Cond.methodLink "GardenChessModel" (682 : Nat) ({ cls := "GardenChessModel", name := "qIsBracket", desc := "(I)Z" } : Jvm.MethodName)) ∈ lw_all := lw_g (lw_at lw_m10 13 rfl) rfl
theorem q2335 : (Jvm.Cond.static ({ cls := "GardenChessModel", name := "qIsBracket", desc := "(I)Z" } : Jvm.MethodName)) ∈ lw_all := lw_g (lw_at lw_m10 14 rfl) rfl
theorem q2336 : (Jvm.Cond.code ({ cls := "GardenChessModel", name := "qIsBracket", desc := "(I)Z" } : Jvm.MethodName) prog_25_method_120_code (1 : Nat) (Option.some Jvm.ClassFile.FieldType.boolean)) ∈ lw_all := lw_g (lw_at lw_m10 15 rfl) rfl
theorem q2337 : (Jvm.Cond.methodLink "GardenChessModel" (709 : Nat) ({ cls := "GardenChessModel", name := "qDropsToBracket", desc := "()V" } : Jvm.MethodName)) ∈ lw_all := lw_g (lw_at lw_m10 16 rfl) rfl
theorem q2338 : (Jvm.Cond.privateMethod ({ cls := "GardenChessModel", name := "qDropsToBracket", desc := "()V" } : Jvm.MethodName)) ∈ lw_tbl := lw_at lw_m10 17 rfl
theorem q2339 : (Jvm.Cond.instanceMethod ({ cls := "GardenChessModel", name := "qDropsToBracket", desc := "()V" } : Jvm.MethodName)) ∈ lw_all := lw_g (lw_at lw_m10 18 rfl) rfl
theorem q2340 : (Jvm.Cond.code ({ cls := "GardenChessModel", name := "qDropsToBracket", desc := "()V" } : Jvm.MethodName) prog_25_method_122_code (1 : Nat) (Option.none : Option Jvm.ClassFile.FieldType)) ∈ lw_all := lw_g (lw_at lw_m10 19 rfl) rfl
theorem q2341 : (Jvm.Cond.methodLink "GardenChessModel" (712 : Nat) ({ cls := "GardenChessModel", name := "qIsOn", desc := "(I)Z" } : Jvm.MethodName)) ∈ lw_all := lw_g (lw_at lw_m10 20 rfl) rfl
theorem q2342 : (Jvm.Cond.privateMethod ({ cls := "GardenChessModel", name := "qIsOn", desc := "(I)Z" } : Jvm.MethodName)) ∈ lw_tbl := lw_at lw_m10 21 rfl
theorem q2343 : (Jvm.Cond.instanceMethod ({ cls := "GardenChessModel", name := "qIsOn", desc := "(I)Z" } : Jvm.MethodName)) ∈ lw_all := lw_g (lw_at lw_m10 22 rfl) rfl
theorem q2344 : (Jvm.Cond.code ({ cls := "GardenChessModel", name := "qIsOn", desc := "(I)Z" } : Jvm.MethodName) prog_25_method_118_code (2 : Nat) (Option.some Jvm.ClassFile.FieldType.boolean)) ∈ lw_all := lw_g (lw_at lw_m10 23 rfl) rfl
theorem q2345 : (Jvm.Cond.methodLink "GardenChessModel" (421 : Nat) ({ cls := "GardenChessModel", name := "stands", desc := "()V" } : Jvm.MethodName)) ∈ lw_all := lw_g (lw_at lw_m10 24 rfl) rfl
theorem q2346 : (Jvm.Cond.privateMethod ({ cls := "GardenChessModel", name := "stands", desc := "()V" } : Jvm.MethodName)) ∈ lw_tbl := lw_at lw_m10 25 rfl
theorem q2347 : (Jvm.Cond.instanceMethod ({ cls := "GardenChessModel", name := "stands", desc := "()V" } : Jvm.MethodName)) ∈ lw_all := lw_g (lw_at lw_m10 26 rfl) rfl
theorem q2348 : (Jvm.Cond.code ({ cls := "GardenChessModel", name := "stands", desc := "()V" } : Jvm.MethodName) prog_25_method_30_code (2 : Nat) (Option.none : Option Jvm.ClassFile.FieldType)) ∈ lw_all := lw_g (lw_at lw_m10 27 rfl) rfl
theorem q2350 : (Jvm.Cond.instanceMethod ({ cls := "GardenChessModel", name := "fault", desc := "(I)I" } : Jvm.MethodName)) ∈ lw_all := lw_g (lw_at lw_m10 29 rfl) rfl
theorem q2351 : (Jvm.Cond.selects "GardenChessModel" ({ cls := "GardenChessModel", name := "fault", desc := "(I)I" } : Jvm.MethodName) ({ cls := "GardenChessModel", name := "fault", desc := "(I)I" } : Jvm.MethodName)) ∈ lw_all := lw_g (lw_at lw_m10 30 rfl) rfl
theorem q2352 : (Jvm.Cond.code ({ cls := "GardenChessModel", name := "fault", desc := "(I)I" } : Jvm.MethodName) prog_25_method_31_code (2 : Nat) (Option.some Jvm.ClassFile.FieldType.int)) ∈ lw_all := lw_g (lw_at lw_m10 31 rfl) rfl
theorem q2354 : (Jvm.Cond.instanceMethod ({ cls := "GardenChessModel", name := "has", desc := "(I)I" } : Jvm.MethodName)) ∈ lw_all := lw_g (lw_at lw_m10 33 rfl) rfl
theorem q2355 : (Jvm.Cond.selects "GardenChessModel" ({ cls := "GardenChessModel", name := "has", desc := "(I)I" } : Jvm.MethodName) ({ cls := "GardenChessModel", name := "has", desc := "(I)I" } : Jvm.MethodName)) ∈ lw_all := lw_g (lw_at lw_m10 34 rfl) rfl
theorem q2356 : (Jvm.Cond.code ({ cls := "GardenChessModel", name := "has", desc := "(I)I" } : Jvm.MethodName) prog_25_method_79_code (2 : Nat) (Option.some Jvm.ClassFile.FieldType.int)) ∈ lw_all := lw_g (lw_at lw_m10 35 rfl) rfl
theorem q2357 : (Jvm.Cond.methodLink "GardenChessModel" (584 : Nat) ({ cls := "GardenChessModel", name := "isOver", desc := "()Z" } : Jvm.MethodName)) ∈ lw_all := lw_g (lw_at lw_m10 36 rfl) rfl
theorem q2358 : (Jvm.Cond.privateMethod ({ cls := "GardenChessModel", name := "isOver", desc := "()Z" } : Jvm.MethodName)) ∈ lw_tbl := lw_at lw_m10 37 rfl
theorem q2359 : (Jvm.Cond.instanceMethod ({ cls := "GardenChessModel", name := "isOver", desc := "()Z" } : Jvm.MethodName)) ∈ lw_all := lw_g (lw_at lw_m10 38 rfl) rfl
theorem q2360 : (Jvm.Cond.code ({ cls := "GardenChessModel", name := "isOver", desc := "()Z" } : Jvm.MethodName) prog_25_method_53_code (1 : Nat) (Option.some Jvm.ClassFile.FieldType.boolean)) ∈ lw_all := lw_g (lw_at lw_m10 39 rfl) rfl
theorem q2361 : (Jvm.Cond.methodLink "GardenChessModel" (484 : Nat) ({ cls := "GardenChessModel", name := "isCrownTaken", desc := "()Z" } : Jvm.MethodName)) ∈ lw_all := lw_g (lw_at lw_m10 40 rfl) rfl
theorem q2362 : (Jvm.Cond.privateMethod ({ cls := "GardenChessModel", name := "isCrownTaken", desc := "()Z" } : Jvm.MethodName)) ∈ lw_tbl := lw_at lw_m10 41 rfl
theorem q2363 : (Jvm.Cond.instanceMethod ({ cls := "GardenChessModel", name := "isCrownTaken", desc := "()Z" } : Jvm.MethodName)) ∈ lw_all := lw_g (lw_at lw_m10 42 rfl) rfl
theorem q2364 : (Jvm.Cond.code ({ cls := "GardenChessModel", name := "isCrownTaken", desc := "()Z" } : Jvm.MethodName) prog_25_method_52_code (2 : Nat) (Option.some Jvm.ClassFile.FieldType.boolean)) ∈ lw_all := lw_g (lw_at lw_m10 43 rfl) rfl
theorem q2365 : (Jvm.Cond.methodLink "GardenChessModel" (433 : Nat) ({ cls := "GardenChessModel", name := "manMany", desc := "()I" } : Jvm.MethodName)) ∈ lw_all := lw_g (lw_at lw_m10 44 rfl) rfl
theorem q2366 : (Jvm.Cond.privateMethod ({ cls := "GardenChessModel", name := "manMany", desc := "()I" } : Jvm.MethodName)) ∈ lw_tbl := lw_at lw_m10 45 rfl
theorem q2367 : (Jvm.Cond.instanceMethod ({ cls := "GardenChessModel", name := "manMany", desc := "()I" } : Jvm.MethodName)) ∈ lw_all := lw_g (lw_at lw_m10 46 rfl) rfl
theorem q2368 : (Jvm.Cond.code ({ cls := "GardenChessModel", name := "manMany", desc := "()I" } : Jvm.MethodName) prog_25_method_32_code (1 : Nat) (Option.some Jvm.ClassFile.FieldType.int)) ∈ lw_all := lw_g (lw_at lw_m10 47 rfl) rfl
theorem q2369 : (Jvm.Cond.methodLink "GardenChessModel" (481 : Nat) ({ cls := "GardenChessModel", name := "isCrown", desc := "(I)Z" } : Jvm.MethodName)) ∈ lw_all := lw_g (lw_at lw_m10 48 rfl) rfl
theorem q2370 : (Jvm.Cond.privateMethod ({ cls := "GardenChessModel", name := "isCrown", desc := "(I)Z" } : Jvm.MethodName)) ∈ lw_tbl := lw_at lw_m10 49 rfl
theorem q2371 : (Jvm.Cond.instanceMethod ({ cls := "GardenChessModel", name := "isCrown", desc := "(I)Z" } : Jvm.MethodName)) ∈ lw_all := lw_g (lw_at lw_m10 50 rfl) rfl
theorem q2372 : (Jvm.Cond.code ({ cls := "GardenChessModel", name := "isCrown", desc := "(I)Z" } : Jvm.MethodName) prog_25_method_42_code (2 : Nat) (Option.some Jvm.ClassFile.FieldType.boolean)) ∈ lw_all := lw_g (lw_at lw_m10 51 rfl) rfl
theorem q2373 : (Jvm.Cond.methodLink "GardenChessModel" (443 : Nat) ({ cls := "GardenChessModel", name := "kindOf", desc := "(I)I" } : Jvm.MethodName)) ∈ lw_all := lw_g (lw_at lw_m10 52 rfl) rfl
theorem q2374 : (Jvm.Cond.privateMethod ({ cls := "GardenChessModel", name := "kindOf", desc := "(I)I" } : Jvm.MethodName)) ∈ lw_tbl := lw_at lw_m10 53 rfl
theorem q2375 : (Jvm.Cond.instanceMethod ({ cls := "GardenChessModel", name := "kindOf", desc := "(I)I" } : Jvm.MethodName)) ∈ lw_all := lw_g (lw_at lw_m10 54 rfl) rfl
theorem q2376 : (Jvm.Cond.code ({ cls := "GardenChessModel", name := "kindOf", desc := "(I)I" } : Jvm.MethodName) prog_25_method_39_code (2 : Nat) (Option.some Jvm.ClassFile.FieldType.int)) ∈ lw_all := lw_g (lw_at lw_m10 55 rfl) rfl
theorem q2377 : (Jvm.Cond.methodLink "GardenChessModel" (458 : Nat) ({ cls := "GardenChessModel", name := "isTaken", desc := "(I)Z" } : Jvm.MethodName)) ∈ lw_all := lw_g (lw_at lw_m10 56 rfl) rfl
theorem q2378 : (Jvm.Cond.privateMethod ({ cls := "GardenChessModel", name := "isTaken", desc := "(I)Z" } : Jvm.MethodName)) ∈ lw_tbl := lw_at lw_m10 57 rfl
theorem q2379 : (Jvm.Cond.instanceMethod ({ cls := "GardenChessModel", name := "isTaken", desc := "(I)Z" } : Jvm.MethodName)) ∈ lw_all := lw_g (lw_at lw_m10 58 rfl) rfl
theorem q2380 : (Jvm.Cond.code ({ cls := "GardenChessModel", name := "isTaken", desc := "(I)Z" } : Jvm.MethodName) prog_25_method_38_code (2 : Nat) (Option.some Jvm.ClassFile.FieldType.boolean)) ∈ lw_all := lw_g (lw_at lw_m10 59 rfl) rfl
theorem q2381 : (Jvm.Cond.methodLink "GardenChessModel" (439 : Nat) ({ cls := "GardenChessModel", name := "columnOf", desc := "(I)I" } : Jvm.MethodName)) ∈ lw_all := lw_g (lw_at lw_m10 60 rfl) rfl
theorem q2382 : (Jvm.Cond.privateMethod ({ cls := "GardenChessModel", name := "columnOf", desc := "(I)I" } : Jvm.MethodName)) ∈ lw_tbl := lw_at lw_m10 61 rfl
theorem q2383 : (Jvm.Cond.instanceMethod ({ cls := "GardenChessModel", name := "columnOf", desc := "(I)I" } : Jvm.MethodName)) ∈ lw_all := lw_g (lw_at lw_m10 62 rfl) rfl
theorem q2384 : (Jvm.Cond.code ({ cls := "GardenChessModel", name := "columnOf", desc := "(I)I" } : Jvm.MethodName) prog_25_method_36_code (2 : Nat) (Option.some Jvm.ClassFile.FieldType.int)) ∈ lw_all := lw_g (lw_at lw_m10 63 rfl) rfl
theorem q2385 : (Jvm.Cond.methodLink "GardenChessModel" (487 : Nat) ({ cls := "GardenChessModel", name := "hasMove", desc := "()Z" } : Jvm.MethodName)) ∈ lw_all := lw_g (lw_at lw_m10 64 rfl) rfl
theorem q2386 : (Jvm.Cond.privateMethod ({ cls := "GardenChessModel", name := "hasMove", desc := "()Z" } : Jvm.MethodName)) ∈ lw_tbl := lw_at lw_m10 65 rfl
theorem q2387 : (Jvm.Cond.instanceMethod ({ cls := "GardenChessModel", name := "hasMove", desc := "()Z" } : Jvm.MethodName)) ∈ lw_all := lw_g (lw_at lw_m10 66 rfl) rfl
theorem q2388 : (Jvm.Cond.code ({ cls := "GardenChessModel", name := "hasMove", desc := "()Z" } : Jvm.MethodName) prog_25_method_51_code (2 : Nat) (Option.some Jvm.ClassFile.FieldType.boolean)) ∈ lw_all := lw_g (lw_at lw_m10 67 rfl) rfl
theorem q2389 : (Jvm.Cond.methodLink "GardenChessModel" (468 : Nat) ({ cls := "GardenChessModel", name := "sideOf", desc := "(I)I" } : Jvm.MethodName)) ∈ lw_all := lw_g (lw_at lw_m10 68 rfl) rfl
theorem q2390 : (Jvm.Cond.privateMethod ({ cls := "GardenChessModel", name := "sideOf", desc := "(I)I" } : Jvm.MethodName)) ∈ lw_tbl := lw_at lw_m10 69 rfl
theorem q2391 : (Jvm.Cond.instanceMethod ({ cls := "GardenChessModel", name := "sideOf", desc := "(I)I" } : Jvm.MethodName)) ∈ lw_all := lw_g (lw_at lw_m10 70 rfl) rfl
theorem q2392 : (Jvm.Cond.code ({ cls := "GardenChessModel", name := "sideOf", desc := "(I)I" } : Jvm.MethodName) prog_25_method_40_code (2 : Nat) (Option.some Jvm.ClassFile.FieldType.int)) ∈ lw_all := lw_g (lw_at lw_m10 71 rfl) rfl
theorem q2393 : (Jvm.Cond.methodLink "GardenChessModel" (478 : Nat) ({ cls := "GardenChessModel", name := "movesOf", desc := "(I)I" } : Jvm.MethodName)) ∈ lw_all := lw_g (lw_at lw_m10 72 rfl) rfl
theorem q2394 : (Jvm.Cond.privateMethod ({ cls := "GardenChessModel", name := "movesOf", desc := "(I)I" } : Jvm.MethodName)) ∈ lw_tbl := lw_at lw_m10 73 rfl
theorem q2395 : (Jvm.Cond.instanceMethod ({ cls := "GardenChessModel", name := "movesOf", desc := "(I)I" } : Jvm.MethodName)) ∈ lw_all := lw_g (lw_at lw_m10 74 rfl) rfl
theorem q2396 : (Jvm.Cond.code ({ cls := "GardenChessModel", name := "movesOf", desc := "(I)I" } : Jvm.MethodName) prog_25_method_50_code (4 : Nat) (Option.some Jvm.ClassFile.FieldType.int)) ∈ lw_all := lw_g (lw_at lw_m10 75 rfl) rfl
theorem q2397 : (Jvm.Cond.methodLink "GardenChessModel" (471 : Nat) ({ cls := "GardenChessModel", name := "places", desc := "()I" } : Jvm.MethodName)) ∈ lw_all := lw_g (lw_at lw_m10 76 rfl) rfl
theorem q2398 : (Jvm.Cond.privateMethod ({ cls := "GardenChessModel", name := "places", desc := "()I" } : Jvm.MethodName)) ∈ lw_tbl := lw_at lw_m10 77 rfl
theorem q2399 : (Jvm.Cond.instanceMethod ({ cls := "GardenChessModel", name := "places", desc := "()I" } : Jvm.MethodName)) ∈ lw_all := lw_g (lw_at lw_m10 78 rfl) rfl
theorem q2400 : (Jvm.Cond.code ({ cls := "GardenChessModel", name := "places", desc := "()I" } : Jvm.MethodName) prog_25_method_43_code (1 : Nat) (Option.some Jvm.ClassFile.FieldType.int)) ∈ lw_all := lw_g (lw_at lw_m10 79 rfl) rfl
theorem q2401 : (Jvm.Cond.methodLink "GardenChessModel" (474 : Nat) ({ cls := "GardenChessModel", name := "canGo", desc := "(II)Z" } : Jvm.MethodName)) ∈ lw_all := lw_g (lw_at lw_m10 80 rfl) rfl
theorem q2402 : (Jvm.Cond.privateMethod ({ cls := "GardenChessModel", name := "canGo", desc := "(II)Z" } : Jvm.MethodName)) ∈ lw_tbl := lw_at lw_m10 81 rfl
theorem q2403 : (Jvm.Cond.instanceMethod ({ cls := "GardenChessModel", name := "canGo", desc := "(II)Z" } : Jvm.MethodName)) ∈ lw_all := lw_g (lw_at lw_m10 82 rfl) rfl
theorem q2404 : (Jvm.Cond.code ({ cls := "GardenChessModel", name := "canGo", desc := "(II)Z" } : Jvm.MethodName) prog_25_method_49_code (9 : Nat) (Option.some Jvm.ClassFile.FieldType.boolean)) ∈ lw_all := lw_g (lw_at lw_m10 83 rfl) rfl
theorem q2405 : (Jvm.Cond.methodLink "GardenChessModel" (449 : Nat) ({ cls := "GardenChessModel", name := "abs", desc := "(I)I" } : Jvm.MethodName)) ∈ lw_all := lw_g (lw_at lw_m10 84 rfl) rfl
theorem q2406 : (Jvm.Cond.static ({ cls := "GardenChessModel", name := "abs", desc := "(I)I" } : Jvm.MethodName)) ∈ lw_all := lw_g (lw_at lw_m10 85 rfl) rfl
theorem q2407 : (Jvm.Cond.code ({ cls := "GardenChessModel", name := "abs", desc := "(I)I" } : Jvm.MethodName) prog_25_method_45_code (1 : Nat) (Option.some Jvm.ClassFile.FieldType.int)) ∈ lw_all := lw_g (lw_at lw_m10 86 rfl) rfl
theorem q2408 : (Jvm.Cond.methodLink "GardenChessModel" (446 : Nat) ({ cls := "GardenChessModel", name := "rowOf", desc := "(I)I" } : Jvm.MethodName)) ∈ lw_all := lw_g (lw_at lw_m10 87 rfl) rfl
theorem q2409 : (Jvm.Cond.privateMethod ({ cls := "GardenChessModel", name := "rowOf", desc := "(I)I" } : Jvm.MethodName)) ∈ lw_tbl := lw_at lw_m10 88 rfl
theorem q2410 : (Jvm.Cond.instanceMethod ({ cls := "GardenChessModel", name := "rowOf", desc := "(I)I" } : Jvm.MethodName)) ∈ lw_all := lw_g (lw_at lw_m10 89 rfl) rfl
theorem q2411 : (Jvm.Cond.code ({ cls := "GardenChessModel", name := "rowOf", desc := "(I)I" } : Jvm.MethodName) prog_25_method_37_code (2 : Nat) (Option.some Jvm.ClassFile.FieldType.int)) ∈ lw_all := lw_g (lw_at lw_m10 90 rfl) rfl
theorem q2412 : (Jvm.Cond.methodLink "GardenChessModel" (461 : Nat) ({ cls := "GardenChessModel", name := "farOff", desc := "(IIII)I" } : Jvm.MethodName)) ∈ lw_all := lw_g (lw_at lw_m10 91 rfl) rfl
theorem q2413 : (Jvm.Cond.static ({ cls := "GardenChessModel", name := "farOff", desc := "(IIII)I" } : Jvm.MethodName)) ∈ lw_all := lw_g (lw_at lw_m10 92 rfl) rfl
theorem q2414 : (Jvm.Cond.code ({ cls := "GardenChessModel", name := "farOff", desc := "(IIII)I" } : Jvm.MethodName) prog_25_method_46_code (6 : Nat) (Option.some Jvm.ClassFile.FieldType.int)) ∈ lw_all := lw_g (lw_at lw_m10 93 rfl) rfl
theorem q2415 : (Jvm.Cond.methodLink "GardenChessModel" (465 : Nat) ({ cls := "GardenChessModel", name := "isWayFree", desc := "(III)Z" } : Jvm.MethodName)) ∈ lw_all := lw_g (lw_at lw_m10 94 rfl) rfl
theorem q2416 : (Jvm.Cond.privateMethod ({ cls := "GardenChessModel", name := "isWayFree", desc := "(III)Z" } : Jvm.MethodName)) ∈ lw_tbl := lw_at lw_m10 95 rfl
theorem q2417 : (Jvm.Cond.instanceMethod ({ cls := "GardenChessModel", name := "isWayFree", desc := "(III)Z" } : Jvm.MethodName)) ∈ lw_all := lw_g (lw_at lw_m10 96 rfl) rfl
theorem q2418 : (Jvm.Cond.code ({ cls := "GardenChessModel", name := "isWayFree", desc := "(III)Z" } : Jvm.MethodName) prog_25_method_48_code (8 : Nat) (Option.some Jvm.ClassFile.FieldType.boolean)) ∈ lw_all := lw_g (lw_at lw_m10 97 rfl) rfl
theorem q2419 : (Jvm.Cond.methodLink "GardenChessModel" (452 : Nat) ({ cls := "GardenChessModel", name := "sign", desc := "(I)I" } : Jvm.MethodName)) ∈ lw_all := lw_g (lw_at lw_m10 98 rfl) rfl
theorem q2420 : (Jvm.Cond.static ({ cls := "GardenChessModel", name := "sign", desc := "(I)I" } : Jvm.MethodName)) ∈ lw_all := lw_g (lw_at lw_m10 99 rfl) rfl
theorem q2421 : (Jvm.Cond.code ({ cls := "GardenChessModel", name := "sign", desc := "(I)I" } : Jvm.MethodName) prog_25_method_47_code (1 : Nat) (Option.some Jvm.ClassFile.FieldType.int)) ∈ lw_all := lw_g (lw_at lw_m10 100 rfl) rfl
theorem q2422 : (Jvm.Cond.methodLink "GardenChessModel" (455 : Nat) ({ cls := "GardenChessModel", name := "manAt", desc := "(II)I" } : Jvm.MethodName)) ∈ lw_all := lw_g (lw_at lw_m10 101 rfl) rfl
theorem q2423 : (Jvm.Cond.privateMethod ({ cls := "GardenChessModel", name := "manAt", desc := "(II)I" } : Jvm.MethodName)) ∈ lw_tbl := lw_at lw_m10 102 rfl
theorem q2424 : (Jvm.Cond.instanceMethod ({ cls := "GardenChessModel", name := "manAt", desc := "(II)I" } : Jvm.MethodName)) ∈ lw_all := lw_g (lw_at lw_m10 103 rfl) rfl
theorem q2425 : (Jvm.Cond.code ({ cls := "GardenChessModel", name := "manAt", desc := "(II)I" } : Jvm.MethodName) prog_25_method_44_code (4 : Nat) (Option.some Jvm.ClassFile.FieldType.int)) ∈ lw_all := lw_g (lw_at lw_m10 104 rfl) rfl
theorem q2426 : (Jvm.Cond.methodLink "GardenChessModel" (587 : Nat) ({ cls := "GardenChessModel", name := "menOf", desc := "(I)I" } : Jvm.MethodName)) ∈ lw_all := lw_g (lw_at lw_m10 105 rfl) rfl
theorem q2427 : (Jvm.Cond.privateMethod ({ cls := "GardenChessModel", name := "menOf", desc := "(I)I" } : Jvm.MethodName)) ∈ lw_tbl := lw_at lw_m10 106 rfl
theorem q2428 : (Jvm.Cond.instanceMethod ({ cls := "GardenChessModel", name := "menOf", desc := "(I)I" } : Jvm.MethodName)) ∈ lw_all := lw_g (lw_at lw_m10 107 rfl) rfl
theorem q2429 : (Jvm.Cond.code ({ cls := "GardenChessModel", name := "menOf", desc := "(I)I" } : Jvm.MethodName) prog_25_method_78_code (4 : Nat) (Option.some Jvm.ClassFile.FieldType.int)) ∈ lw_all := lw_g (lw_at lw_m10 108 rfl) rfl
theorem q2430 : (Jvm.Cond.methodLink "GardenChessModel" (590 : Nat) ({ cls := "GardenChessModel", name := "bearAll", desc := "()I" } : Jvm.MethodName)) ∈ lw_all := lw_g (lw_at lw_m10 109 rfl) rfl
theorem q2431 : (Jvm.Cond.privateMethod ({ cls := "GardenChessModel", name := "bearAll", desc := "()I" } : Jvm.MethodName)) ∈ lw_tbl := lw_at lw_m10 110 rfl
theorem q2432 : (Jvm.Cond.instanceMethod ({ cls := "GardenChessModel", name := "bearAll", desc := "()I" } : Jvm.MethodName)) ∈ lw_all := lw_g (lw_at lw_m10 111 rfl) rfl
theorem q2433 : (Jvm.Cond.code ({ cls := "GardenChessModel", name := "bearAll", desc := "()I" } : Jvm.MethodName) prog_25_method_77_code (3 : Nat) (Option.some Jvm.ClassFile.FieldType.int)) ∈ lw_all := lw_g (lw_at lw_m10 112 rfl) rfl
theorem q2434 : (Jvm.Cond.methodLink "GardenChessModel" (436 : Nat) ({ cls := "GardenChessModel", name := "fieldMany", desc := "()I" } : Jvm.MethodName)) ∈ lw_all := lw_g (lw_at lw_m10 113 rfl) rfl
theorem q2435 : (Jvm.Cond.privateMethod ({ cls := "GardenChessModel", name := "fieldMany", desc := "()I" } : Jvm.MethodName)) ∈ lw_tbl := lw_at lw_m10 114 rfl
theorem q2436 : (Jvm.Cond.instanceMethod ({ cls := "GardenChessModel", name := "fieldMany", desc := "()I" } : Jvm.MethodName)) ∈ lw_all := lw_g (lw_at lw_m10 115 rfl) rfl
theorem q2437 : (Jvm.Cond.code ({ cls := "GardenChessModel", name := "fieldMany", desc := "()I" } : Jvm.MethodName) prog_25_method_33_code (1 : Nat) (Option.some Jvm.ClassFile.FieldType.int)) ∈ lw_all := lw_g (lw_at lw_m10 116 rfl) rfl
theorem q2439 : (Jvm.Cond.instanceMethod ({ cls := "GardenChessModel", name := "letter", desc := "(III)I" } : Jvm.MethodName)) ∈ lw_all := lw_g (lw_at lw_m10 118 rfl) rfl
theorem q2440 : (Jvm.Cond.selects "GardenChessModel" ({ cls := "GardenChessModel", name := "letter", desc := "(III)I" } : Jvm.MethodName) ({ cls := "GardenChessModel", name := "letter", desc := "(III)I" } : Jvm.MethodName)) ∈ lw_all := lw_g (lw_at lw_m10 119 rfl) rfl
theorem q2441 : (Jvm.Cond.code ({ cls := "GardenChessModel", name := "letter", desc := "(III)I" } : Jvm.MethodName) prog_25_method_80_code (9 : Nat) (Option.some Jvm.ClassFile.FieldType.int)) ∈ lw_all := lw_g (lw_at lw_m10 120 rfl) rfl
theorem q2442 : (Jvm.Cond.constantLong "GardenChessModel" (593 : Nat) (2 : Int64)) ∈ lw_all := lw_g (lw_at lw_m10 121 rfl) rfl
theorem q2443 : (Jvm.Cond.constantLong "GardenChessModel" (595 : Nat) (5 : Int64)) ∈ lw_all := lw_g (lw_at lw_m10 122 rfl) rfl
theorem q2445 : (Jvm.Cond.instanceMethod ({ cls := "GardenChessModel", name := "kind", desc := "(II)I" } : Jvm.MethodName)) ∈ lw_all := lw_g (lw_at lw_m10 124 rfl) rfl
theorem q2446 : (Jvm.Cond.selects "GardenChessModel" ({ cls := "GardenChessModel", name := "kind", desc := "(II)I" } : Jvm.MethodName) ({ cls := "GardenChessModel", name := "kind", desc := "(II)I" } : Jvm.MethodName)) ∈ lw_all := lw_g (lw_at lw_m10 125 rfl) rfl
theorem q2447 : (Jvm.Cond.code ({ cls := "GardenChessModel", name := "kind", desc := "(II)I" } : Jvm.MethodName) prog_25_method_81_code (3 : Nat) (Option.some Jvm.ClassFile.FieldType.int)) ∈ lw_all := lw_g (lw_at lw_m10 126 rfl) rfl
theorem q2448 : (Jvm.Cond.constantLong "GardenChessModel" (597 : Nat) (3 : Int64)) ∈ lw_all := lw_g (lw_at lw_m10 127 rfl) rfl
theorem q2450 : (Jvm.Cond.instanceMethod ({ cls := "GardenChessModel", name := "man", desc := "(II)I" } : Jvm.MethodName)) ∈ lw_all := lw_g (lw_at lw_m10 129 rfl) rfl
theorem q2451 : (Jvm.Cond.selects "GardenChessModel" ({ cls := "GardenChessModel", name := "man", desc := "(II)I" } : Jvm.MethodName) ({ cls := "GardenChessModel", name := "man", desc := "(II)I" } : Jvm.MethodName)) ∈ lw_all := lw_g (lw_at lw_m10 130 rfl) rfl
theorem q2452 : (Jvm.Cond.code ({ cls := "GardenChessModel", name := "man", desc := "(II)I" } : Jvm.MethodName) prog_25_method_82_code (3 : Nat) (Option.some Jvm.ClassFile.FieldType.int)) ∈ lw_all := lw_g (lw_at lw_m10 131 rfl) rfl
theorem q2453 : (Jvm.Cond.methodLink "GardenChessModel" (599 : Nat) ({ cls := "GardenChessModel", name := "isMan", desc := "(I)Z" } : Jvm.MethodName)) ∈ lw_all := lw_g (lw_at lw_m10 132 rfl) rfl
theorem q2454 : (Jvm.Cond.privateMethod ({ cls := "GardenChessModel", name := "isMan", desc := "(I)Z" } : Jvm.MethodName)) ∈ lw_tbl := lw_at lw_m10 133 rfl
theorem q2455 : (Jvm.Cond.instanceMethod ({ cls := "GardenChessModel", name := "isMan", desc := "(I)Z" } : Jvm.MethodName)) ∈ lw_all := lw_g (lw_at lw_m10 134 rfl) rfl
theorem q2456 : (Jvm.Cond.code ({ cls := "GardenChessModel", name := "isMan", desc := "(I)Z" } : Jvm.MethodName) prog_25_method_34_code (2 : Nat) (Option.some Jvm.ClassFile.FieldType.boolean)) ∈ lw_all := lw_g (lw_at lw_m10 135 rfl) rfl
theorem q2458 : (Jvm.Cond.instanceMethod ({ cls := "GardenChessModel", name := "field", desc := "(II)I" } : Jvm.MethodName)) ∈ lw_all := lw_g (lw_at lw_m10 137 rfl) rfl
theorem q2459 : (Jvm.Cond.selects "GardenChessModel" ({ cls := "GardenChessModel", name := "field", desc := "(II)I" } : Jvm.MethodName) ({ cls := "GardenChessModel", name := "field", desc := "(II)I" } : Jvm.MethodName)) ∈ lw_all := lw_g (lw_at lw_m10 138 rfl) rfl
theorem q2460 : (Jvm.Cond.code ({ cls := "GardenChessModel", name := "field", desc := "(II)I" } : Jvm.MethodName) prog_25_method_83_code (3 : Nat) (Option.some Jvm.ClassFile.FieldType.int)) ∈ lw_all := lw_g (lw_at lw_m10 139 rfl) rfl
theorem q2461 : (Jvm.Cond.methodLink "GardenChessModel" (602 : Nat) ({ cls := "GardenChessModel", name := "isField", desc := "(I)Z" } : Jvm.MethodName)) ∈ lw_all := lw_g (lw_at lw_m10 140 rfl) rfl
theorem q2462 : (Jvm.Cond.privateMethod ({ cls := "GardenChessModel", name := "isField", desc := "(I)Z" } : Jvm.MethodName)) ∈ lw_tbl := lw_at lw_m10 141 rfl
theorem q2463 : (Jvm.Cond.instanceMethod ({ cls := "GardenChessModel", name := "isField", desc := "(I)Z" } : Jvm.MethodName)) ∈ lw_all := lw_g (lw_at lw_m10 142 rfl) rfl
theorem q2464 : (Jvm.Cond.code ({ cls := "GardenChessModel", name := "isField", desc := "(I)Z" } : Jvm.MethodName) prog_25_method_35_code (2 : Nat) (Option.some Jvm.ClassFile.FieldType.boolean)) ∈ lw_all := lw_g (lw_at lw_m10 143 rfl) rfl
theorem q2466 : (Jvm.Cond.instanceMethod ({ cls := "GardenChessModel", name := "at", desc := "(II)I" } : Jvm.MethodName)) ∈ lw_all := lw_g (lw_at lw_m10 145 rfl) rfl
theorem q2467 : (Jvm.Cond.selects "GardenChessModel" ({ cls := "GardenChessModel", name := "at", desc := "(II)I" } : Jvm.MethodName) ({ cls := "GardenChessModel", name := "at", desc := "(II)I" } : Jvm.MethodName)) ∈ lw_all := lw_g (lw_at lw_m10 146 rfl) rfl
theorem q2468 : (Jvm.Cond.code ({ cls := "GardenChessModel", name := "at", desc := "(II)I" } : Jvm.MethodName) prog_25_method_84_code (3 : Nat) (Option.some Jvm.ClassFile.FieldType.int)) ∈ lw_all := lw_g (lw_at lw_m10 147 rfl) rfl
theorem q2470 : (Jvm.Cond.instanceMethod ({ cls := "GardenChessModel", name := "option", desc := "(II)I" } : Jvm.MethodName)) ∈ lw_all := lw_g (lw_at lw_m10 149 rfl) rfl
theorem q2471 : (Jvm.Cond.selects "GardenChessModel" ({ cls := "GardenChessModel", name := "option", desc := "(II)I" } : Jvm.MethodName) ({ cls := "GardenChessModel", name := "option", desc := "(II)I" } : Jvm.MethodName)) ∈ lw_all := lw_g (lw_at lw_m10 150 rfl) rfl
theorem q2472 : (Jvm.Cond.code ({ cls := "GardenChessModel", name := "option", desc := "(II)I" } : Jvm.MethodName) prog_25_method_85_code (7 : Nat) (Option.some Jvm.ClassFile.FieldType.int)) ∈ lw_all := lw_g (lw_at lw_m10 151 rfl) rfl
theorem q2473 : (Jvm.Cond.constantLong "GardenChessModel" (605 : Nat) (4 : Int64)) ∈ lw_all := lw_g (lw_at lw_m10 152 rfl) rfl
theorem q2474 : (Jvm.Cond.methodLink "GardenChessModel" (607 : Nat) ({ cls := "GardenChessModel", name := "chooses", desc := "(I)V" } : Jvm.MethodName)) ∈ lw_all := lw_g (lw_at lw_m10 153 rfl) rfl
theorem q2475 : (Jvm.Cond.privateMethod ({ cls := "GardenChessModel", name := "chooses", desc := "(I)V" } : Jvm.MethodName)) ∈ lw_tbl := lw_at lw_m10 154 rfl
theorem q2476 : (Jvm.Cond.instanceMethod ({ cls := "GardenChessModel", name := "chooses", desc := "(I)V" } : Jvm.MethodName)) ∈ lw_all := lw_g (lw_at lw_m10 155 rfl) rfl
theorem q2477 : (Jvm.Cond.code ({ cls := "GardenChessModel", name := "chooses", desc := "(I)V" } : Jvm.MethodName) prog_25_method_63_code (5 : Nat) (Option.none : Option Jvm.ClassFile.FieldType)) ∈ lw_all := lw_g (lw_at lw_m10 156 rfl) rfl
theorem q2478 : (Jvm.Cond.methodLink "GardenChessModel" (496 : Nat) ({ cls := "GardenChessModel", name := "does", desc := "(III)V" } : Jvm.MethodName)) ∈ lw_all := lw_g (lw_at lw_m10 157 rfl) rfl
theorem q2479 : (Jvm.Cond.privateMethod ({ cls := "GardenChessModel", name := "does", desc := "(III)V" } : Jvm.MethodName)) ∈ lw_tbl := lw_at lw_m10 158 rfl
theorem q2480 : (Jvm.Cond.instanceMethod ({ cls := "GardenChessModel", name := "does", desc := "(III)V" } : Jvm.MethodName)) ∈ lw_all := lw_g (lw_at lw_m10 159 rfl) rfl
theorem q2481 : (Jvm.Cond.code ({ cls := "GardenChessModel", name := "does", desc := "(III)V" } : Jvm.MethodName) prog_25_method_54_code (7 : Nat) (Option.none : Option Jvm.ClassFile.FieldType)) ∈ lw_all := lw_g (lw_at lw_m10 160 rfl) rfl
theorem q2482 : (Jvm.Cond.methodLink "GardenChessModel" (553 : Nat) ({ cls := "GardenChessModel", name := "isCheck", desc := "(I)Z" } : Jvm.MethodName)) ∈ lw_all := lw_g (lw_at lw_m10 161 rfl) rfl
theorem q2483 : (Jvm.Cond.privateMethod ({ cls := "GardenChessModel", name := "isCheck", desc := "(I)Z" } : Jvm.MethodName)) ∈ lw_tbl := lw_at lw_m10 162 rfl
theorem q2484 : (Jvm.Cond.instanceMethod ({ cls := "GardenChessModel", name := "isCheck", desc := "(I)Z" } : Jvm.MethodName)) ∈ lw_all := lw_g (lw_at lw_m10 163 rfl) rfl
theorem q2485 : (Jvm.Cond.code ({ cls := "GardenChessModel", name := "isCheck", desc := "(I)Z" } : Jvm.MethodName) prog_25_method_65_code (4 : Nat) (Option.some Jvm.ClassFile.FieldType.boolean)) ∈ lw_all := lw_g (lw_at lw_m10 164 rfl) rfl
theorem q2486 : (Jvm.Cond.methodLink "GardenChessModel" (503 : Nat) ({ cls := "GardenChessModel", name := "undoes", desc := "(I)V" } : Jvm.MethodName)) ∈ lw_all := lw_g (lw_at lw_m10 165 rfl) rfl
theorem q2487 : (Jvm.Cond.privateMethod ({ cls := "GardenChessModel", name := "undoes", desc := "(I)V" } : Jvm.MethodName)) ∈ lw_tbl := lw_at lw_m10 166 rfl
theorem q2488 : (Jvm.Cond.instanceMethod ({ cls := "GardenChessModel", name := "undoes", desc := "(I)V" } : Jvm.MethodName)) ∈ lw_all := lw_g (lw_at lw_m10 167 rfl) rfl
theorem q2489 : (Jvm.Cond.code ({ cls := "GardenChessModel", name := "undoes", desc := "(I)V" } : Jvm.MethodName) prog_25_method_55_code (4 : Nat) (Option.none : Option Jvm.ClassFile.FieldType)) ∈ lw_all := lw_g (lw_at lw_m10 168 rfl) rfl
theorem q2491 : (Jvm.Cond.instanceMethod ({ cls := "GardenChessModel", name := "kept", desc := "(II)I" } : Jvm.MethodName)) ∈ lw_all := lw_g (lw_at lw_m10 170 rfl) rfl
theorem q2492 : (Jvm.Cond.selects "GardenChessModel" ({ cls := "GardenChessModel", name := "kept", desc := "(II)I" } : Jvm.MethodName) ({ cls := "GardenChessModel", name := "kept", desc := "(II)I" } : Jvm.MethodName)) ∈ lw_all := lw_g (lw_at lw_m10 171 rfl) rfl
theorem q2493 : (Jvm.Cond.code ({ cls := "GardenChessModel", name := "kept", desc := "(II)I" } : Jvm.MethodName) prog_25_method_86_code (3 : Nat) (Option.some Jvm.ClassFile.FieldType.int)) ∈ lw_all := lw_g (lw_at lw_m10 172 rfl) rfl
theorem q2495 : (Jvm.Cond.instanceMethod ({ cls := "GardenChessModel", name := "balance", desc := "(I)J" } : Jvm.MethodName)) ∈ lw_all := lw_g (lw_at lw_m10 174 rfl) rfl
theorem q2496 : (Jvm.Cond.selects "GardenChessModel" ({ cls := "GardenChessModel", name := "balance", desc := "(I)J" } : Jvm.MethodName) ({ cls := "GardenChessModel", name := "balance", desc := "(I)J" } : Jvm.MethodName)) ∈ lw_all := lw_g (lw_at lw_m10 175 rfl) rfl
theorem q2497 : (Jvm.Cond.code ({ cls := "GardenChessModel", name := "balance", desc := "(I)J" } : Jvm.MethodName) prog_25_method_87_code (2 : Nat) (Option.some Jvm.ClassFile.FieldType.long)) ∈ lw_all := lw_g (lw_at lw_m10 176 rfl) rfl
theorem q2498 : (Jvm.Cond.methodLink "GardenChessModel" (493 : Nat) ({ cls := "GardenChessModel", name := "balanceOf", desc := "(I)I" } : Jvm.MethodName)) ∈ lw_all := lw_g (lw_at lw_m10 177 rfl) rfl
theorem q2499 : (Jvm.Cond.privateMethod ({ cls := "GardenChessModel", name := "balanceOf", desc := "(I)I" } : Jvm.MethodName)) ∈ lw_tbl := lw_at lw_m10 178 rfl
theorem q2500 : (Jvm.Cond.instanceMethod ({ cls := "GardenChessModel", name := "balanceOf", desc := "(I)I" } : Jvm.MethodName)) ∈ lw_all := lw_g (lw_at lw_m10 179 rfl) rfl
theorem q2501 : (Jvm.Cond.code ({ cls := "GardenChessModel", name := "balanceOf", desc := "(I)I" } : Jvm.MethodName) prog_25_method_56_code (4 : Nat) (Option.some Jvm.ClassFile.FieldType.int)) ∈ lw_all := lw_g (lw_at lw_m10 180 rfl) rfl
theorem q2502 : (Jvm.Cond.methodLink "GardenChessModel" (490 : Nat) ({ cls := "GardenChessModel", name := "worthOf", desc := "(I)I" } : Jvm.MethodName)) ∈ lw_all := lw_g (lw_at lw_m10 181 rfl) rfl
theorem q2503 : (Jvm.Cond.privateMethod ({ cls := "GardenChessModel", name := "worthOf", desc := "(I)I" } : Jvm.MethodName)) ∈ lw_tbl := lw_at lw_m10 182 rfl
theorem q2504 : (Jvm.Cond.instanceMethod ({ cls := "GardenChessModel", name := "worthOf", desc := "(I)I" } : Jvm.MethodName)) ∈ lw_all := lw_g (lw_at lw_m10 183 rfl) rfl
theorem q2505 : (Jvm.Cond.code ({ cls := "GardenChessModel", name := "worthOf", desc := "(I)I" } : Jvm.MethodName) prog_25_method_41_code (2 : Nat) (Option.some Jvm.ClassFile.FieldType.int)) ∈ lw_all := lw_g (lw_at lw_m10 184 rfl) rfl
theorem q2506 : (Jvm.Cond.constantLong "GardenChessModel" (610 : Nat) (-1000000000000000 : Int64)) ∈ lw_all := lw_g (lw_at lw_m10 185 rfl) rfl
theorem q2508 : (Jvm.Cond.instanceMethod ({ cls := "GardenChessModel", name := "value", desc := "(I)J" } : Jvm.MethodName)) ∈ lw_all := lw_g (lw_at lw_m10 187 rfl) rfl
theorem q2509 : (Jvm.Cond.selects "GardenChessModel" ({ cls := "GardenChessModel", name := "value", desc := "(I)J" } : Jvm.MethodName) ({ cls := "GardenChessModel", name := "value", desc := "(I)J" } : Jvm.MethodName)) ∈ lw_all := lw_g (lw_at lw_m10 188 rfl) rfl
theorem q2510 : (Jvm.Cond.code ({ cls := "GardenChessModel", name := "value", desc := "(I)J" } : Jvm.MethodName) prog_25_method_88_code (2 : Nat) (Option.some Jvm.ClassFile.FieldType.long)) ∈ lw_all := lw_g (lw_at lw_m10 189 rfl) rfl
theorem q2511 : (Jvm.Cond.methodLink "GardenChessModel" (518 : Nat) ({ cls := "GardenChessModel", name := "valueBy", desc := "(I)I" } : Jvm.MethodName)) ∈ lw_all := lw_g (lw_at lw_m10 190 rfl) rfl
theorem q2512 : (Jvm.Cond.privateMethod ({ cls := "GardenChessModel", name := "valueBy", desc := "(I)I" } : Jvm.MethodName)) ∈ lw_tbl := lw_at lw_m10 191 rfl
theorem q2513 : (Jvm.Cond.instanceMethod ({ cls := "GardenChessModel", name := "valueBy", desc := "(I)I" } : Jvm.MethodName)) ∈ lw_all := lw_g (lw_at lw_m10 192 rfl) rfl
theorem q2514 : (Jvm.Cond.code ({ cls := "GardenChessModel", name := "valueBy", desc := "(I)I" } : Jvm.MethodName) prog_25_method_61_code (2 : Nat) (Option.some Jvm.ClassFile.FieldType.int)) ∈ lw_all := lw_g (lw_at lw_m10 193 rfl) rfl
theorem q2515 : (Jvm.Cond.methodLink "GardenChessModel" (500 : Nat) ({ cls := "GardenChessModel", name := "value0", desc := "()I" } : Jvm.MethodName)) ∈ lw_all := lw_g (lw_at lw_m10 194 rfl) rfl
theorem q2516 : (Jvm.Cond.privateMethod ({ cls := "GardenChessModel", name := "value0", desc := "()I" } : Jvm.MethodName)) ∈ lw_tbl := lw_at lw_m10 195 rfl
theorem q2517 : (Jvm.Cond.instanceMethod ({ cls := "GardenChessModel", name := "value0", desc := "()I" } : Jvm.MethodName)) ∈ lw_all := lw_g (lw_at lw_m10 196 rfl) rfl
theorem q2518 : (Jvm.Cond.code ({ cls := "GardenChessModel", name := "value0", desc := "()I" } : Jvm.MethodName) prog_25_method_57_code (1 : Nat) (Option.some Jvm.ClassFile.FieldType.int)) ∈ lw_all := lw_g (lw_at lw_m10 197 rfl) rfl
theorem q2519 : (Jvm.Cond.methodLink "GardenChessModel" (506 : Nat) ({ cls := "GardenChessModel", name := "value1", desc := "()I" } : Jvm.MethodName)) ∈ lw_all := lw_g (lw_at lw_m10 198 rfl) rfl
theorem q2520 : (Jvm.Cond.privateMethod ({ cls := "GardenChessModel", name := "value1", desc := "()I" } : Jvm.MethodName)) ∈ lw_tbl := lw_at lw_m10 199 rfl
theorem q2521 : (Jvm.Cond.instanceMethod ({ cls := "GardenChessModel", name := "value1", desc := "()I" } : Jvm.MethodName)) ∈ lw_all := lw_g (lw_at lw_m10 200 rfl) rfl
theorem q2522 : (Jvm.Cond.code ({ cls := "GardenChessModel", name := "value1", desc := "()I" } : Jvm.MethodName) prog_25_method_58_code (6 : Nat) (Option.some Jvm.ClassFile.FieldType.int)) ∈ lw_all := lw_g (lw_at lw_m10 201 rfl) rfl
theorem q2523 : (Jvm.Cond.methodLink "GardenChessModel" (509 : Nat) ({ cls := "GardenChessModel", name := "value2", desc := "()I" } : Jvm.MethodName)) ∈ lw_all := lw_g (lw_at lw_m10 202 rfl) rfl
theorem q2524 : (Jvm.Cond.privateMethod ({ cls := "GardenChessModel", name := "value2", desc := "()I" } : Jvm.MethodName)) ∈ lw_tbl := lw_at lw_m10 203 rfl
theorem q2525 : (Jvm.Cond.instanceMethod ({ cls := "GardenChessModel", name := "value2", desc := "()I" } : Jvm.MethodName)) ∈ lw_all := lw_g (lw_at lw_m10 204 rfl) rfl
theorem q2526 : (Jvm.Cond.code ({ cls := "GardenChessModel", name := "value2", desc := "()I" } : Jvm.MethodName) prog_25_method_59_code (6 : Nat) (Option.some Jvm.ClassFile.FieldType.int)) ∈ lw_all := lw_g (lw_at lw_m10 205 rfl) rfl
theorem q2527 : (Jvm.Cond.methodLink "GardenChessModel" (512 : Nat) ({ cls := "GardenChessModel", name := "value3", desc := "()I" } : Jvm.MethodName)) ∈ lw_all := lw_g (lw_at lw_m10 206 rfl) rfl
theorem q2528 : (Jvm.Cond.privateMethod ({ cls := "GardenChessModel", name := "value3", desc := "()I" } : Jvm.MethodName)) ∈ lw_tbl := lw_at lw_m10 207 rfl
theorem q2529 : (Jvm.Cond.instanceMethod ({ cls := "GardenChessModel", name := "value3", desc := "()I" } : Jvm.MethodName)) ∈ lw_all := lw_g (lw_at lw_m10 208 rfl) rfl
theorem q2530 : (Jvm.Cond.code ({ cls := "GardenChessModel", name := "value3", desc := "()I" } : Jvm.MethodName) prog_25_method_60_code (6 : Nat) (Option.some Jvm.ClassFile.FieldType.int)) ∈ lw_all := lw_g (lw_at lw_m10 209 rfl) rfl
theorem q2532 : (Jvm.Cond.instanceMethod ({ cls := "GardenChessModel", name := "best", desc := "(I)I" } : Jvm.MethodName)) ∈ lw_all := lw_g (lw_at lw_m10 211 rfl) rfl
theorem q2533 : (Jvm.Cond.selects "GardenChessModel" ({ cls := "GardenChessModel", name := "best", desc := "(I)I" } : Jvm.MethodName) ({ cls := "GardenChessModel", name := "best", desc := "(I)I" } : Jvm.MethodName)) ∈ lw_all := lw_g (lw_at lw_m10 212 rfl) rfl
theorem q2534 : (Jvm.Cond.code ({ cls := "GardenChessModel", name := "best", desc := "(I)I" } : Jvm.MethodName) prog_25_method_89_code (2 : Nat) (Option.some Jvm.ClassFile.FieldType.int)) ∈ lw_all := lw_g (lw_at lw_m10 213 rfl) rfl
theorem q2535 : (Jvm.Cond.methodLink "GardenChessModel" (572 : Nat) ({ cls := "GardenChessModel", name := "choosesBest", desc := "(I)V" } : Jvm.MethodName)) ∈ lw_all := lw_g (lw_at lw_m10 214 rfl) rfl
theorem q2536 : (Jvm.Cond.privateMethod ({ cls := "GardenChessModel", name := "choosesBest", desc := "(I)V" } : Jvm.MethodName)) ∈ lw_tbl := lw_at lw_m10 215 rfl
theorem q2537 : (Jvm.Cond.instanceMethod ({ cls := "GardenChessModel", name := "choosesBest", desc := "(I)V" } : Jvm.MethodName)) ∈ lw_all := lw_g (lw_at lw_m10 216 rfl) rfl
theorem q2538 : (Jvm.Cond.code ({ cls := "GardenChessModel", name := "choosesBest", desc := "(I)V" } : Jvm.MethodName) prog_25_method_62_code (7 : Nat) (Option.none : Option Jvm.ClassFile.FieldType)) ∈ lw_all := lw_g (lw_at lw_m10 217 rfl) rfl
theorem q2540 : (Jvm.Cond.instanceMethod ({ cls := "GardenChessModel", name := "forced", desc := "()I" } : Jvm.MethodName)) ∈ lw_all := lw_g (lw_at lw_m10 219 rfl) rfl
theorem q2541 : (Jvm.Cond.selects "GardenChessModel" ({ cls := "GardenChessModel", name := "forced", desc := "()I" } : Jvm.MethodName) ({ cls := "GardenChessModel", name := "forced", desc := "()I" } : Jvm.MethodName)) ∈ lw_all := lw_g (lw_at lw_m10 220 rfl) rfl
theorem q2542 : (Jvm.Cond.code ({ cls := "GardenChessModel", name := "forced", desc := "()I" } : Jvm.MethodName) prog_25_method_92_code (4 : Nat) (Option.some Jvm.ClassFile.FieldType.int)) ∈ lw_all := lw_g (lw_at lw_m10 221 rfl) rfl
theorem q2543 : (Jvm.Cond.methodLink "GardenChessModel" (612 : Nat) ({ cls := "GardenChessModel", name := "takesCrown", desc := "()Z" } : Jvm.MethodName)) ∈ lw_all := lw_g (lw_at lw_m10 222 rfl) rfl
theorem q2544 : (Jvm.Cond.privateMethod ({ cls := "GardenChessModel", name := "takesCrown", desc := "()Z" } : Jvm.MethodName)) ∈ lw_tbl := lw_at lw_m10 223 rfl
theorem q2545 : (Jvm.Cond.instanceMethod ({ cls := "GardenChessModel", name := "takesCrown", desc := "()Z" } : Jvm.MethodName)) ∈ lw_all := lw_g (lw_at lw_m10 224 rfl) rfl
theorem q2546 : (Jvm.Cond.code ({ cls := "GardenChessModel", name := "takesCrown", desc := "()Z" } : Jvm.MethodName) prog_25_method_90_code (1 : Nat) (Option.some Jvm.ClassFile.FieldType.boolean)) ∈ lw_all := lw_g (lw_at lw_m10 225 rfl) rfl
theorem q2547 : (Jvm.Cond.methodLink "GardenChessModel" (615 : Nat) ({ cls := "GardenChessModel", name := "isForcedNow", desc := "()Z" } : Jvm.MethodName)) ∈ lw_all := lw_g (lw_at lw_m10 226 rfl) rfl
theorem q2548 : (Jvm.Cond.privateMethod ({ cls := "GardenChessModel", name := "isForcedNow", desc := "()Z" } : Jvm.MethodName)) ∈ lw_tbl := lw_at lw_m10 227 rfl
theorem q2549 : (Jvm.Cond.instanceMethod ({ cls := "GardenChessModel", name := "isForcedNow", desc := "()Z" } : Jvm.MethodName)) ∈ lw_all := lw_g (lw_at lw_m10 228 rfl) rfl
theorem q2550 : (Jvm.Cond.code ({ cls := "GardenChessModel", name := "isForcedNow", desc := "()Z" } : Jvm.MethodName) prog_25_method_91_code (5 : Nat) (Option.some Jvm.ClassFile.FieldType.boolean)) ∈ lw_all := lw_g (lw_at lw_m10 229 rfl) rfl
theorem q2552 : (Jvm.Cond.instanceMethod ({ cls := "GardenChessModel", name := "later", desc := "(II)I" } : Jvm.MethodName)) ∈ lw_all := lw_g (lw_at lw_m10 231 rfl) rfl
theorem q2553 : (Jvm.Cond.selects "GardenChessModel" ({ cls := "GardenChessModel", name := "later", desc := "(II)I" } : Jvm.MethodName) ({ cls := "GardenChessModel", name := "later", desc := "(II)I" } : Jvm.MethodName)) ∈ lw_all := lw_g (lw_at lw_m10 232 rfl) rfl
theorem q2554 : (Jvm.Cond.code ({ cls := "GardenChessModel", name := "later", desc := "(II)I" } : Jvm.MethodName) prog_25_method_93_code (4 : Nat) (Option.some Jvm.ClassFile.FieldType.int)) ∈ lw_all := lw_g (lw_at lw_m10 233 rfl) rfl
theorem q2555 : (Jvm.Cond.methodLink "GardenChessModel" (618 : Nat) ({ cls := "GardenChessModel", name := "isAhead", desc := "(III)Z" } : Jvm.MethodName)) ∈ lw_all := lw_g (lw_at lw_m10 234 rfl) rfl
theorem q2556 : (Jvm.Cond.privateMethod ({ cls := "GardenChessModel", name := "isAhead", desc := "(III)Z" } : Jvm.MethodName)) ∈ lw_tbl := lw_at lw_m10 235 rfl
theorem q2557 : (Jvm.Cond.instanceMethod ({ cls := "GardenChessModel", name := "isAhead", desc := "(III)Z" } : Jvm.MethodName)) ∈ lw_all := lw_g (lw_at lw_m10 236 rfl) rfl
theorem q2558 : (Jvm.Cond.code ({ cls := "GardenChessModel", name := "isAhead", desc := "(III)Z" } : Jvm.MethodName) prog_25_method_76_code (4 : Nat) (Option.some Jvm.ClassFile.FieldType.boolean)) ∈ lw_all := lw_g (lw_at lw_m10 237 rfl) rfl
theorem q2559 : (Jvm.Cond.methodLink "GardenChessModel" (621 : Nat) ({ cls := "GardenChessModel", name := "putsAside", desc := "()V" } : Jvm.MethodName)) ∈ lw_all := lw_g (lw_at lw_m10 238 rfl) rfl
theorem q2560 : (Jvm.Cond.privateMethod ({ cls := "GardenChessModel", name := "putsAside", desc := "()V" } : Jvm.MethodName)) ∈ lw_tbl := lw_at lw_m10 239 rfl
theorem q2561 : (Jvm.Cond.instanceMethod ({ cls := "GardenChessModel", name := "putsAside", desc := "()V" } : Jvm.MethodName)) ∈ lw_all := lw_g (lw_at lw_m11 0 rfl) rfl
theorem q2562 : (Jvm.Cond.code ({ cls := "GardenChessModel", name := "putsAside", desc := "()V" } : Jvm.MethodName) prog_25_method_73_code (2 : Nat) (Option.none : Option Jvm.ClassFile.FieldType)) ∈ lw_all := lw_g (lw_at lw_m11 1 rfl) rfl
theorem q2563 : (Jvm.Cond.methodLink "GardenChessModel" (624 : Nat) ({ cls := "GardenChessModel", name := "daysGo", desc := "(I)V" } : Jvm.MethodName)) ∈ lw_all := lw_g (lw_at lw_m11 2 rfl) rfl
theorem q2564 : (Jvm.Cond.privateMethod ({ cls := "GardenChessModel", name := "daysGo", desc := "(I)V" } : Jvm.MethodName)) ∈ lw_tbl := lw_at lw_m11 3 rfl
theorem q2565 : (Jvm.Cond.instanceMethod ({ cls := "GardenChessModel", name := "daysGo", desc := "(I)V" } : Jvm.MethodName)) ∈ lw_all := lw_g (lw_at lw_m11 4 rfl) rfl
theorem q2566 : (Jvm.Cond.code ({ cls := "GardenChessModel", name := "daysGo", desc := "(I)V" } : Jvm.MethodName) prog_25_method_72_code (3 : Nat) (Option.none : Option Jvm.ClassFile.FieldType)) ∈ lw_all := lw_g (lw_at lw_m11 5 rfl) rfl
theorem q2567 : (Jvm.Cond.methodLink "GardenChessModel" (575 : Nat) ({ cls := "GardenChessModel", name := "choosesToday", desc := "()V" } : Jvm.MethodName)) ∈ lw_all := lw_g (lw_at lw_m11 6 rfl) rfl
theorem q2568 : (Jvm.Cond.privateMethod ({ cls := "GardenChessModel", name := "choosesToday", desc := "()V" } : Jvm.MethodName)) ∈ lw_tbl := lw_at lw_m11 7 rfl
theorem q2569 : (Jvm.Cond.instanceMethod ({ cls := "GardenChessModel", name := "choosesToday", desc := "()V" } : Jvm.MethodName)) ∈ lw_all := lw_g (lw_at lw_m11 8 rfl) rfl
theorem q2570 : (Jvm.Cond.code ({ cls := "GardenChessModel", name := "choosesToday", desc := "()V" } : Jvm.MethodName) prog_25_method_71_code (1 : Nat) (Option.none : Option Jvm.ClassFile.FieldType)) ∈ lw_all := lw_g (lw_at lw_m11 9 rfl) rfl
theorem q2571 : (Jvm.Cond.methodLink "GardenChessModel" (578 : Nat) ({ cls := "GardenChessModel", name := "dayGoes", desc := "()V" } : Jvm.MethodName)) ∈ lw_all := lw_g (lw_at lw_m11 10 rfl) rfl
theorem q2572 : (Jvm.Cond.privateMethod ({ cls := "GardenChessModel", name := "dayGoes", desc := "()V" } : Jvm.MethodName)) ∈ lw_tbl := lw_at lw_m11 11 rfl
theorem q2573 : (Jvm.Cond.instanceMethod ({ cls := "GardenChessModel", name := "dayGoes", desc := "()V" } : Jvm.MethodName)) ∈ lw_all := lw_g (lw_at lw_m11 12 rfl) rfl
theorem q2574 : (Jvm.Cond.code ({ cls := "GardenChessModel", name := "dayGoes", desc := "()V" } : Jvm.MethodName) prog_25_method_70_code (2 : Nat) (Option.none : Option Jvm.ClassFile.FieldType)) ∈ lw_all := lw_g (lw_at lw_m11 13 rfl) rfl
theorem q2575 : (Jvm.Cond.methodLink "GardenChessModel" (566 : Nat) ({ cls := "GardenChessModel", name := "playsChosen", desc := "()V" } : Jvm.MethodName)) ∈ lw_all := lw_g (lw_at lw_m11 14 rfl) rfl
theorem q2576 : (Jvm.Cond.privateMethod ({ cls := "GardenChessModel", name := "playsChosen", desc := "()V" } : Jvm.MethodName)) ∈ lw_tbl := lw_at lw_m11 15 rfl
theorem q2577 : (Jvm.Cond.instanceMethod ({ cls := "GardenChessModel", name := "playsChosen", desc := "()V" } : Jvm.MethodName)) ∈ lw_all := lw_g (lw_at lw_m11 16 rfl) rfl
theorem q2578 : (Jvm.Cond.code ({ cls := "GardenChessModel", name := "playsChosen", desc := "()V" } : Jvm.MethodName) prog_25_method_68_code (7 : Nat) (Option.none : Option Jvm.ClassFile.FieldType)) ∈ lw_all := lw_g (lw_at lw_m11 17 rfl) rfl
theorem q2579 : (Jvm.Cond.methodLink "GardenChessModel" (559 : Nat) ({ cls := "GardenChessModel", name := "harmAt", desc := "(IIII)J" } : Jvm.MethodName)) ∈ lw_all := lw_g (lw_at lw_m11 18 rfl) rfl
theorem q2580 : (Jvm.Cond.privateMethod ({ cls := "GardenChessModel", name := "harmAt", desc := "(IIII)J" } : Jvm.MethodName)) ∈ lw_tbl := lw_at lw_m11 19 rfl
theorem q2581 : (Jvm.Cond.instanceMethod ({ cls := "GardenChessModel", name := "harmAt", desc := "(IIII)J" } : Jvm.MethodName)) ∈ lw_all := lw_g (lw_at lw_m11 20 rfl) rfl
theorem q2582 : (Jvm.Cond.code ({ cls := "GardenChessModel", name := "harmAt", desc := "(IIII)J" } : Jvm.MethodName) prog_25_method_66_code (7 : Nat) (Option.some Jvm.ClassFile.FieldType.long)) ∈ lw_all := lw_g (lw_at lw_m11 21 rfl) rfl
theorem q2583 : (Jvm.Cond.methodLink "GardenChessModel" (536 : Nat) ({ cls := "GardenChessModel", name := "qPuts", desc := "(J)V" } : Jvm.MethodName)) ∈ lw_all := lw_g (lw_at lw_m11 22 rfl) rfl
theorem q2584 : (Jvm.Cond.privateMethod ({ cls := "GardenChessModel", name := "qPuts", desc := "(J)V" } : Jvm.MethodName)) ∈ lw_tbl := lw_at lw_m11 23 rfl
theorem q2585 : (Jvm.Cond.instanceMethod ({ cls := "GardenChessModel", name := "qPuts", desc := "(J)V" } : Jvm.MethodName)) ∈ lw_all := lw_g (lw_at lw_m11 24 rfl) rfl
theorem q2586 : (Jvm.Cond.code ({ cls := "GardenChessModel", name := "qPuts", desc := "(J)V" } : Jvm.MethodName) prog_25_method_137_code (3 : Nat) (Option.none : Option Jvm.ClassFile.FieldType)) ∈ lw_all := lw_g (lw_at lw_m11 25 rfl) rfl
theorem q2587 : (Jvm.Cond.methodLink "GardenChessModel" (540 : Nat) ({ cls := "GardenChessModel", name := "qPartOf", desc := "(II)J" } : Jvm.MethodName)) ∈ lw_all := lw_g (lw_at lw_m11 26 rfl) rfl
theorem q2588 : (Jvm.Cond.privateMethod ({ cls := "GardenChessModel", name := "qPartOf", desc := "(II)J" } : Jvm.MethodName)) ∈ lw_tbl := lw_at lw_m11 27 rfl
theorem q2589 : (Jvm.Cond.instanceMethod ({ cls := "GardenChessModel", name := "qPartOf", desc := "(II)J" } : Jvm.MethodName)) ∈ lw_all := lw_g (lw_at lw_m11 28 rfl) rfl
theorem q2590 : (Jvm.Cond.code ({ cls := "GardenChessModel", name := "qPartOf", desc := "(II)J" } : Jvm.MethodName) prog_25_method_139_code (3 : Nat) (Option.some Jvm.ClassFile.FieldType.long)) ∈ lw_all := lw_g (lw_at lw_m11 29 rfl) rfl
theorem q2591 : (Jvm.Cond.methodLink "GardenChessModel" (544 : Nat) ({ cls := "GardenChessModel", name := "qJoins", desc := "(I)V" } : Jvm.MethodName)) ∈ lw_all := lw_g (lw_at lw_m11 30 rfl) rfl
theorem q2592 : (Jvm.Cond.privateMethod ({ cls := "GardenChessModel", name := "qJoins", desc := "(I)V" } : Jvm.MethodName)) ∈ lw_tbl := lw_at lw_m11 31 rfl
theorem q2593 : (Jvm.Cond.instanceMethod ({ cls := "GardenChessModel", name := "qJoins", desc := "(I)V" } : Jvm.MethodName)) ∈ lw_all := lw_g (lw_at lw_m11 32 rfl) rfl
theorem q2594 : (Jvm.Cond.code ({ cls := "GardenChessModel", name := "qJoins", desc := "(I)V" } : Jvm.MethodName) prog_25_method_138_code (6 : Nat) (Option.none : Option Jvm.ClassFile.FieldType)) ∈ lw_all := lw_g (lw_at lw_m11 33 rfl) rfl
theorem q2595 : (Jvm.Cond.methodLink "GardenChessModel" (737 : Nat) ({ cls := "GardenChessModel", name := "qClip", desc := "(J)J" } : Jvm.MethodName)) ∈ lw_all := lw_g (lw_at lw_m11 34 rfl) rfl
theorem q2596 : (Jvm.Cond.static ({ cls := "GardenChessModel", name := "qClip", desc := "(J)J" } : Jvm.MethodName)) ∈ lw_all := lw_g (lw_at lw_m11 35 rfl) rfl
theorem q2597 : (Jvm.Cond.code ({ cls := "GardenChessModel", name := "qClip", desc := "(J)J" } : Jvm.MethodName) prog_25_method_135_code (2 : Nat) (Option.some Jvm.ClassFile.FieldType.long)) ∈ lw_all := lw_g (lw_at lw_m11 36 rfl) rfl
theorem q2598 : (Jvm.Cond.constantLong "GardenChessModel" (733 : Nat) (1000000 : Int64)) ∈ lw_all := lw_g (lw_at lw_m11 37 rfl) rfl
theorem q2599 : (Jvm.Cond.constantLong "GardenChessModel" (735 : Nat) (-1000000 : Int64)) ∈ lw_all := lw_g (lw_at lw_m11 38 rfl) rfl
theorem q2600 : (Jvm.Cond.methodLink "GardenChessModel" (741 : Nat) ({ cls := "GardenChessModel", name := "qFloor", desc := "(JJ)J" } : Jvm.MethodName)) ∈ lw_all := lw_g (lw_at lw_m11 39 rfl) rfl
theorem q2601 : (Jvm.Cond.static ({ cls := "GardenChessModel", name := "qFloor", desc := "(JJ)J" } : Jvm.MethodName)) ∈ lw_all := lw_g (lw_at lw_m11 40 rfl) rfl
theorem q2602 : (Jvm.Cond.code ({ cls := "GardenChessModel", name := "qFloor", desc := "(JJ)J" } : Jvm.MethodName) prog_25_method_136_code (6 : Nat) (Option.some Jvm.ClassFile.FieldType.long)) ∈ lw_all := lw_g (lw_at lw_m11 41 rfl) rfl
theorem q2603 : (Jvm.Cond.methodLink "GardenChessModel" (563 : Nat) ({ cls := "GardenChessModel", name := "isKept", desc := "()V" } : Jvm.MethodName)) ∈ lw_all := lw_g (lw_at lw_m11 42 rfl) rfl
theorem q2604 : (Jvm.Cond.privateMethod ({ cls := "GardenChessModel", name := "isKept", desc := "()V" } : Jvm.MethodName)) ∈ lw_tbl := lw_at lw_m11 43 rfl
theorem q2605 : (Jvm.Cond.instanceMethod ({ cls := "GardenChessModel", name := "isKept", desc := "()V" } : Jvm.MethodName)) ∈ lw_all := lw_g (lw_at lw_m11 44 rfl) rfl
theorem q2606 : (Jvm.Cond.code ({ cls := "GardenChessModel", name := "isKept", desc := "()V" } : Jvm.MethodName) prog_25_method_67_code (2 : Nat) (Option.none : Option Jvm.ClassFile.FieldType)) ∈ lw_all := lw_g (lw_at lw_m11 45 rfl) rfl
theorem q2607 : (Jvm.Cond.methodLink "GardenChessModel" (627 : Nat) ({ cls := "GardenChessModel", name := "takesBack", desc := "()V" } : Jvm.MethodName)) ∈ lw_all := lw_g (lw_at lw_m11 46 rfl) rfl
theorem q2608 : (Jvm.Cond.privateMethod ({ cls := "GardenChessModel", name := "takesBack", desc := "()V" } : Jvm.MethodName)) ∈ lw_tbl := lw_at lw_m11 47 rfl
theorem q2609 : (Jvm.Cond.instanceMethod ({ cls := "GardenChessModel", name := "takesBack", desc := "()V" } : Jvm.MethodName)) ∈ lw_all := lw_g (lw_at lw_m11 48 rfl) rfl
theorem q2610 : (Jvm.Cond.code ({ cls := "GardenChessModel", name := "takesBack", desc := "()V" } : Jvm.MethodName) prog_25_method_75_code (1 : Nat) (Option.none : Option Jvm.ClassFile.FieldType)) ∈ lw_all := lw_g (lw_at lw_m11 49 rfl) rfl
theorem q2611 : (Jvm.Cond.methodLink "GardenChessModel" (581 : Nat) ({ cls := "GardenChessModel", name := "triesAnew", desc := "()V" } : Jvm.MethodName)) ∈ lw_all := lw_g (lw_at lw_m11 50 rfl) rfl
theorem q2612 : (Jvm.Cond.privateMethod ({ cls := "GardenChessModel", name := "triesAnew", desc := "()V" } : Jvm.MethodName)) ∈ lw_tbl := lw_at lw_m11 51 rfl
theorem q2613 : (Jvm.Cond.instanceMethod ({ cls := "GardenChessModel", name := "triesAnew", desc := "()V" } : Jvm.MethodName)) ∈ lw_all := lw_g (lw_at lw_m11 52 rfl) rfl
theorem q2614 : (Jvm.Cond.code ({ cls := "GardenChessModel", name := "triesAnew", desc := "()V" } : Jvm.MethodName) prog_25_method_74_code (2 : Nat) (Option.none : Option Jvm.ClassFile.FieldType)) ∈ lw_all := lw_g (lw_at lw_m11 53 rfl) rfl
theorem q2616 : (Jvm.Cond.instanceMethod ({ cls := "GardenChessModel", name := "crop", desc := "(II)I" } : Jvm.MethodName)) ∈ lw_all := lw_g (lw_at lw_m11 55 rfl) rfl
theorem q2617 : (Jvm.Cond.selects "GardenChessModel" ({ cls := "GardenChessModel", name := "crop", desc := "(II)I" } : Jvm.MethodName) ({ cls := "GardenChessModel", name := "crop", desc := "(II)I" } : Jvm.MethodName)) ∈ lw_all := lw_g (lw_at lw_m11 56 rfl) rfl
theorem q2618 : (Jvm.Cond.code ({ cls := "GardenChessModel", name := "crop", desc := "(II)I" } : Jvm.MethodName) prog_25_method_94_code (4 : Nat) (Option.some Jvm.ClassFile.FieldType.int)) ∈ lw_all := lw_g (lw_at lw_m11 57 rfl) rfl
theorem q2620 : (Jvm.Cond.instanceMethod ({ cls := "GardenChessModel", name := "spare", desc := "(III)I" } : Jvm.MethodName)) ∈ lw_all := lw_g (lw_at lw_m11 59 rfl) rfl
theorem q2621 : (Jvm.Cond.selects "GardenChessModel" ({ cls := "GardenChessModel", name := "spare", desc := "(III)I" } : Jvm.MethodName) ({ cls := "GardenChessModel", name := "spare", desc := "(III)I" } : Jvm.MethodName)) ∈ lw_all := lw_g (lw_at lw_m11 60 rfl) rfl
theorem q2622 : (Jvm.Cond.code ({ cls := "GardenChessModel", name := "spare", desc := "(III)I" } : Jvm.MethodName) prog_25_method_95_code (9 : Nat) (Option.some Jvm.ClassFile.FieldType.int)) ∈ lw_all := lw_g (lw_at lw_m11 61 rfl) rfl
theorem q2623 : (Jvm.Cond.methodLink "GardenChessModel" (630 : Nat) ({ cls := "GardenChessModel", name := "movesNow", desc := "()I" } : Jvm.MethodName)) ∈ lw_all := lw_g (lw_at lw_m11 62 rfl) rfl
theorem q2624 : (Jvm.Cond.privateMethod ({ cls := "GardenChessModel", name := "movesNow", desc := "()I" } : Jvm.MethodName)) ∈ lw_tbl := lw_at lw_m11 63 rfl
theorem q2625 : (Jvm.Cond.instanceMethod ({ cls := "GardenChessModel", name := "movesNow", desc := "()I" } : Jvm.MethodName)) ∈ lw_all := lw_g (lw_at lw_m11 64 rfl) rfl
theorem q2626 : (Jvm.Cond.code ({ cls := "GardenChessModel", name := "movesNow", desc := "()I" } : Jvm.MethodName) prog_25_method_64_code (3 : Nat) (Option.some Jvm.ClassFile.FieldType.int)) ∈ lw_all := lw_g (lw_at lw_m11 65 rfl) rfl
theorem q2628 : (Jvm.Cond.instanceMethod ({ cls := "GardenChessModel", name := "sow", desc := "(II)I" } : Jvm.MethodName)) ∈ lw_all := lw_g (lw_at lw_m11 67 rfl) rfl
theorem q2629 : (Jvm.Cond.selects "GardenChessModel" ({ cls := "GardenChessModel", name := "sow", desc := "(II)I" } : Jvm.MethodName) ({ cls := "GardenChessModel", name := "sow", desc := "(II)I" } : Jvm.MethodName)) ∈ lw_all := lw_g (lw_at lw_m11 68 rfl) rfl
theorem q2630 : (Jvm.Cond.code ({ cls := "GardenChessModel", name := "sow", desc := "(II)I" } : Jvm.MethodName) prog_25_method_96_code (5 : Nat) (Option.some Jvm.ClassFile.FieldType.int)) ∈ lw_all := lw_g (lw_at lw_m11 69 rfl) rfl
theorem q2631 : (Jvm.Cond.methodLink "GardenChessModel" (633 : Nat) ({ cls := "GardenChessModel", name := "laysHarms", desc := "()V" } : Jvm.MethodName)) ∈ lw_all := lw_g (lw_at lw_m11 70 rfl) rfl
theorem q2632 : (Jvm.Cond.privateMethod ({ cls := "GardenChessModel", name := "laysHarms", desc := "()V" } : Jvm.MethodName)) ∈ lw_tbl := lw_at lw_m11 71 rfl
theorem q2633 : (Jvm.Cond.instanceMethod ({ cls := "GardenChessModel", name := "laysHarms", desc := "()V" } : Jvm.MethodName)) ∈ lw_all := lw_g (lw_at lw_m11 72 rfl) rfl
theorem q2634 : (Jvm.Cond.code ({ cls := "GardenChessModel", name := "laysHarms", desc := "()V" } : Jvm.MethodName) prog_25_method_69_code (5 : Nat) (Option.none : Option Jvm.ClassFile.FieldType)) ∈ lw_all := lw_g (lw_at lw_m11 73 rfl) rfl
theorem q2635 : (Jvm.Cond.constantLong "GardenChessModel" (636 : Nat) (999999 : Int64)) ∈ lw_all := lw_g (lw_at lw_m11 74 rfl) rfl
theorem q2636 : (Jvm.Cond.constant "GardenChessModel" (638 : Nat) (999999 : Int32)) ∈ lw_all := lw_g (lw_at lw_m11 75 rfl) rfl
theorem q2638 : (Jvm.Cond.instanceMethod ({ cls := "GardenChessModel", name := "deeper", desc := "(III)J" } : Jvm.MethodName)) ∈ lw_all := lw_g (lw_at lw_m11 77 rfl) rfl
theorem q2639 : (Jvm.Cond.selects "GardenChessModel" ({ cls := "GardenChessModel", name := "deeper", desc := "(III)J" } : Jvm.MethodName) ({ cls := "GardenChessModel", name := "deeper", desc := "(III)J" } : Jvm.MethodName)) ∈ lw_all := lw_g (lw_at lw_m11 78 rfl) rfl
theorem q2640 : (Jvm.Cond.code ({ cls := "GardenChessModel", name := "deeper", desc := "(III)J" } : Jvm.MethodName) prog_25_method_97_code (6 : Nat) (Option.some Jvm.ClassFile.FieldType.long)) ∈ lw_all := lw_g (lw_at lw_m11 79 rfl) rfl
theorem q2642 : (Jvm.Cond.instanceMethod ({ cls := "GardenChessModel", name := "see", desc := "()I" } : Jvm.MethodName)) ∈ lw_all := lw_g (lw_at lw_m11 81 rfl) rfl
theorem q2643 : (Jvm.Cond.selects "GardenChessModel" ({ cls := "GardenChessModel", name := "see", desc := "()I" } : Jvm.MethodName) ({ cls := "GardenChessModel", name := "see", desc := "()I" } : Jvm.MethodName)) ∈ lw_all := lw_g (lw_at lw_m11 82 rfl) rfl
theorem q2644 : (Jvm.Cond.code ({ cls := "GardenChessModel", name := "see", desc := "()I" } : Jvm.MethodName) prog_25_method_99_code (4 : Nat) (Option.some Jvm.ClassFile.FieldType.int)) ∈ lw_all := lw_g (lw_at lw_m11 83 rfl) rfl
theorem q2645 : (Jvm.Cond.methodLink "GardenChessModel" (639 : Nat) ({ cls := "GardenChessModel", name := "refuses", desc := "(I)I" } : Jvm.MethodName)) ∈ lw_all := lw_g (lw_at lw_m11 84 rfl) rfl
theorem q2646 : (Jvm.Cond.privateMethod ({ cls := "GardenChessModel", name := "refuses", desc := "(I)I" } : Jvm.MethodName)) ∈ lw_tbl := lw_at lw_m11 85 rfl
theorem q2647 : (Jvm.Cond.instanceMethod ({ cls := "GardenChessModel", name := "refuses", desc := "(I)I" } : Jvm.MethodName)) ∈ lw_all := lw_g (lw_at lw_m11 86 rfl) rfl
theorem q2648 : (Jvm.Cond.code ({ cls := "GardenChessModel", name := "refuses", desc := "(I)I" } : Jvm.MethodName) prog_25_method_98_code (2 : Nat) (Option.some Jvm.ClassFile.FieldType.int)) ∈ lw_all := lw_g (lw_at lw_m11 87 rfl) rfl
theorem q2650 : (Jvm.Cond.instanceMethod ({ cls := "GardenChessModel", name := "played", desc := "(I)I" } : Jvm.MethodName)) ∈ lw_all := lw_g (lw_at lw_m11 89 rfl) rfl
theorem q2651 : (Jvm.Cond.selects "GardenChessModel" ({ cls := "GardenChessModel", name := "played", desc := "(I)I" } : Jvm.MethodName) ({ cls := "GardenChessModel", name := "played", desc := "(I)I" } : Jvm.MethodName)) ∈ lw_all := lw_g (lw_at lw_m11 90 rfl) rfl
theorem q2652 : (Jvm.Cond.code ({ cls := "GardenChessModel", name := "played", desc := "(I)I" } : Jvm.MethodName) prog_25_method_101_code (8 : Nat) (Option.some Jvm.ClassFile.FieldType.int)) ∈ lw_all := lw_g (lw_at lw_m11 91 rfl) rfl
theorem q2653 : (Jvm.Cond.methodLink "GardenChessModel" (642 : Nat) ({ cls := "GardenChessModel", name := "isAsSeen", desc := "()Z" } : Jvm.MethodName)) ∈ lw_all := lw_g (lw_at lw_m11 92 rfl) rfl
theorem q2654 : (Jvm.Cond.privateMethod ({ cls := "GardenChessModel", name := "isAsSeen", desc := "()Z" } : Jvm.MethodName)) ∈ lw_tbl := lw_at lw_m11 93 rfl
theorem q2655 : (Jvm.Cond.instanceMethod ({ cls := "GardenChessModel", name := "isAsSeen", desc := "()Z" } : Jvm.MethodName)) ∈ lw_all := lw_g (lw_at lw_m11 94 rfl) rfl
theorem q2656 : (Jvm.Cond.code ({ cls := "GardenChessModel", name := "isAsSeen", desc := "()Z" } : Jvm.MethodName) prog_25_method_100_code (2 : Nat) (Option.some Jvm.ClassFile.FieldType.boolean)) ∈ lw_all := lw_g (lw_at lw_m11 95 rfl) rfl
theorem q2658 : (Jvm.Cond.instanceMethod ({ cls := "GardenChessModel", name := "reached", desc := "(I)I" } : Jvm.MethodName)) ∈ lw_all := lw_g (lw_at lw_m11 97 rfl) rfl
theorem q2659 : (Jvm.Cond.selects "GardenChessModel" ({ cls := "GardenChessModel", name := "reached", desc := "(I)I" } : Jvm.MethodName) ({ cls := "GardenChessModel", name := "reached", desc := "(I)I" } : Jvm.MethodName)) ∈ lw_all := lw_g (lw_at lw_m11 98 rfl) rfl
theorem q2660 : (Jvm.Cond.code ({ cls := "GardenChessModel", name := "reached", desc := "(I)I" } : Jvm.MethodName) prog_25_method_107_code (4 : Nat) (Option.some Jvm.ClassFile.FieldType.int)) ∈ lw_all := lw_g (lw_at lw_m11 99 rfl) rfl
theorem q2661 : (Jvm.Cond.methodLink "GardenChessModel" (654 : Nat) ({ cls := "GardenChessModel", name := "areMen", desc := "(I)Z" } : Jvm.MethodName)) ∈ lw_all := lw_g (lw_at lw_m11 100 rfl) rfl
theorem q2662 : (Jvm.Cond.privateMethod ({ cls := "GardenChessModel", name := "areMen", desc := "(I)Z" } : Jvm.MethodName)) ∈ lw_tbl := lw_at lw_m11 101 rfl
theorem q2663 : (Jvm.Cond.instanceMethod ({ cls := "GardenChessModel", name := "areMen", desc := "(I)Z" } : Jvm.MethodName)) ∈ lw_all := lw_g (lw_at lw_m11 102 rfl) rfl
theorem q2664 : (Jvm.Cond.code ({ cls := "GardenChessModel", name := "areMen", desc := "(I)Z" } : Jvm.MethodName) prog_25_method_106_code (6 : Nat) (Option.some Jvm.ClassFile.FieldType.boolean)) ∈ lw_all := lw_g (lw_at lw_m11 103 rfl) rfl
theorem q2665 : (Jvm.Cond.methodLink "GardenChessModel" (645 : Nat) ({ cls := "GardenChessModel", name := "ways0", desc := "()I" } : Jvm.MethodName)) ∈ lw_all := lw_g (lw_at lw_m11 104 rfl) rfl
theorem q2666 : (Jvm.Cond.privateMethod ({ cls := "GardenChessModel", name := "ways0", desc := "()I" } : Jvm.MethodName)) ∈ lw_tbl := lw_at lw_m11 105 rfl
theorem q2667 : (Jvm.Cond.instanceMethod ({ cls := "GardenChessModel", name := "ways0", desc := "()I" } : Jvm.MethodName)) ∈ lw_all := lw_g (lw_at lw_m11 106 rfl) rfl
theorem q2668 : (Jvm.Cond.code ({ cls := "GardenChessModel", name := "ways0", desc := "()I" } : Jvm.MethodName) prog_25_method_102_code (2 : Nat) (Option.some Jvm.ClassFile.FieldType.int)) ∈ lw_all := lw_g (lw_at lw_m11 107 rfl) rfl
theorem q2669 : (Jvm.Cond.methodLink "GardenChessModel" (648 : Nat) ({ cls := "GardenChessModel", name := "ways1", desc := "()I" } : Jvm.MethodName)) ∈ lw_all := lw_g (lw_at lw_m11 108 rfl) rfl
theorem q2670 : (Jvm.Cond.privateMethod ({ cls := "GardenChessModel", name := "ways1", desc := "()I" } : Jvm.MethodName)) ∈ lw_tbl := lw_at lw_m11 109 rfl
theorem q2671 : (Jvm.Cond.instanceMethod ({ cls := "GardenChessModel", name := "ways1", desc := "()I" } : Jvm.MethodName)) ∈ lw_all := lw_g (lw_at lw_m11 110 rfl) rfl
theorem q2672 : (Jvm.Cond.code ({ cls := "GardenChessModel", name := "ways1", desc := "()I" } : Jvm.MethodName) prog_25_method_103_code (4 : Nat) (Option.some Jvm.ClassFile.FieldType.int)) ∈ lw_all := lw_g (lw_at lw_m11 111 rfl) rfl
theorem q2673 : (Jvm.Cond.methodLink "GardenChessModel" (651 : Nat) ({ cls := "GardenChessModel", name := "ways2", desc := "()I" } : Jvm.MethodName)) ∈ lw_all := lw_g (lw_at lw_m11 112 rfl) rfl
theorem q2674 : (Jvm.Cond.privateMethod ({ cls := "GardenChessModel", name := "ways2", desc := "()I" } : Jvm.MethodName)) ∈ lw_tbl := lw_at lw_m11 113 rfl
theorem q2675 : (Jvm.Cond.instanceMethod ({ cls := "GardenChessModel", name := "ways2", desc := "()I" } : Jvm.MethodName)) ∈ lw_all := lw_g (lw_at lw_m11 114 rfl) rfl
theorem q2676 : (Jvm.Cond.code ({ cls := "GardenChessModel", name := "ways2", desc := "()I" } : Jvm.MethodName) prog_25_method_104_code (4 : Nat) (Option.some Jvm.ClassFile.FieldType.int)) ∈ lw_all := lw_g (lw_at lw_m11 115 rfl) rfl
theorem q2677 : (Jvm.Cond.methodLink "GardenChessModel" (657 : Nat) ({ cls := "GardenChessModel", name := "ways3", desc := "()I" } : Jvm.MethodName)) ∈ lw_all := lw_g (lw_at lw_m11 116 rfl) rfl
theorem q2678 : (Jvm.Cond.privateMethod ({ cls := "GardenChessModel", name := "ways3", desc := "()I" } : Jvm.MethodName)) ∈ lw_tbl := lw_at lw_m11 117 rfl
theorem q2679 : (Jvm.Cond.instanceMethod ({ cls := "GardenChessModel", name := "ways3", desc := "()I" } : Jvm.MethodName)) ∈ lw_all := lw_g (lw_at lw_m11 118 rfl) rfl
theorem q2680 : (Jvm.Cond.code ({ cls := "GardenChessModel", name := "ways3", desc := "()I" } : Jvm.MethodName) prog_25_method_105_code (4 : Nat) (Option.some Jvm.ClassFile.FieldType.int)) ∈ lw_all := lw_g (lw_at lw_m11 119 rfl) rfl
theorem q2682 : (Jvm.Cond.instanceMethod ({ cls := "GardenChessModel", name := "undo", desc := "()Z" } : Jvm.MethodName)) ∈ lw_all := lw_g (lw_at lw_m11 121 rfl) rfl
theorem q2683 : (Jvm.Cond.selects "GardenChessModel" ({ cls := "GardenChessModel", name := "undo", desc := "()Z" } : Jvm.MethodName) ({ cls := "GardenChessModel", name := "undo", desc := "()Z" } : Jvm.MethodName)) ∈ lw_all := lw_g (lw_at lw_m11 122 rfl) rfl
theorem q2684 : (Jvm.Cond.code ({ cls := "GardenChessModel", name := "undo", desc := "()Z" } : Jvm.MethodName) prog_25_method_109_code (2 : Nat) (Option.some Jvm.ClassFile.FieldType.boolean)) ∈ lw_all := lw_g (lw_at lw_m11 123 rfl) rfl
theorem q2686 : (Jvm.Cond.instanceMethod ({ cls := "GardenChessModel", name := "play", desc := "(I)I" } : Jvm.MethodName)) ∈ lw_all := lw_g (lw_at lw_m11 125 rfl) rfl
theorem q2687 : (Jvm.Cond.selects "GardenChessModel" ({ cls := "GardenChessModel", name := "play", desc := "(I)I" } : Jvm.MethodName) ({ cls := "GardenChessModel", name := "play", desc := "(I)I" } : Jvm.MethodName)) ∈ lw_all := lw_g (lw_at lw_m11 126 rfl) rfl
theorem q2688 : (Jvm.Cond.code ({ cls := "GardenChessModel", name := "play", desc := "(I)I" } : Jvm.MethodName) prog_25_method_110_code (2 : Nat) (Option.some Jvm.ClassFile.FieldType.int)) ∈ lw_all := lw_g (lw_at lw_m11 127 rfl) rfl
theorem q2689 : (Jvm.Cond.methodLink "GardenChessModel" (663 : Nat) ({ cls := "GardenChessModel", name := "keeps", desc := "()V" } : Jvm.MethodName)) ∈ lw_all := lw_g (lw_at lw_m11 128 rfl) rfl
theorem q2690 : (Jvm.Cond.privateMethod ({ cls := "GardenChessModel", name := "keeps", desc := "()V" } : Jvm.MethodName)) ∈ lw_tbl := lw_at lw_m11 129 rfl
theorem q2691 : (Jvm.Cond.instanceMethod ({ cls := "GardenChessModel", name := "keeps", desc := "()V" } : Jvm.MethodName)) ∈ lw_all := lw_g (lw_at lw_m11 130 rfl) rfl
theorem q2692 : (Jvm.Cond.code ({ cls := "GardenChessModel", name := "keeps", desc := "()V" } : Jvm.MethodName) prog_25_method_108_code (2 : Nat) (Option.none : Option Jvm.ClassFile.FieldType)) ∈ lw_all := lw_g (lw_at lw_m11 131 rfl) rfl
theorem q2694 : (Jvm.Cond.instanceMethod ({ cls := "GardenChessModel", name := "tend", desc := "(II)I" } : Jvm.MethodName)) ∈ lw_all := lw_g (lw_at lw_m11 133 rfl) rfl
theorem q2695 : (Jvm.Cond.selects "GardenChessModel" ({ cls := "GardenChessModel", name := "tend", desc := "(II)I" } : Jvm.MethodName) ({ cls := "GardenChessModel", name := "tend", desc := "(II)I" } : Jvm.MethodName)) ∈ lw_all := lw_g (lw_at lw_m11 134 rfl) rfl
theorem q2696 : (Jvm.Cond.code ({ cls := "GardenChessModel", name := "tend", desc := "(II)I" } : Jvm.MethodName) prog_25_method_111_code (4 : Nat) (Option.some Jvm.ClassFile.FieldType.int)) ∈ lw_all := lw_g (lw_at lw_m11 135 rfl) rfl
theorem q2697 : (Jvm.Cond.constantLong "GardenChessModel" (666 : Nat) (99 : Int64)) ∈ lw_all := lw_g (lw_at lw_m11 136 rfl) rfl
theorem q2699 : (Jvm.Cond.instanceMethod ({ cls := "GardenChessModel", name := "days", desc := "(I)I" } : Jvm.MethodName)) ∈ lw_all := lw_g (lw_at lw_m11 138 rfl) rfl
theorem q2700 : (Jvm.Cond.selects "GardenChessModel" ({ cls := "GardenChessModel", name := "days", desc := "(I)I" } : Jvm.MethodName) ({ cls := "GardenChessModel", name := "days", desc := "(I)I" } : Jvm.MethodName)) ∈ lw_all := lw_g (lw_at lw_m11 139 rfl) rfl
theorem q2701 : (Jvm.Cond.code ({ cls := "GardenChessModel", name := "days", desc := "(I)I" } : Jvm.MethodName) prog_25_method_112_code (4 : Nat) (Option.some Jvm.ClassFile.FieldType.int)) ∈ lw_all := lw_g (lw_at lw_m11 140 rfl) rfl
theorem q2703 : (Jvm.Cond.instanceMethod ({ cls := "GardenChessModel", name := "seed", desc := "(I)Z" } : Jvm.MethodName)) ∈ lw_all := lw_g (lw_at lw_m11 142 rfl) rfl
theorem q2704 : (Jvm.Cond.selects "GardenChessModel" ({ cls := "GardenChessModel", name := "seed", desc := "(I)Z" } : Jvm.MethodName) ({ cls := "GardenChessModel", name := "seed", desc := "(I)Z" } : Jvm.MethodName)) ∈ lw_all := lw_g (lw_at lw_m11 143 rfl) rfl
theorem q2705 : (Jvm.Cond.code ({ cls := "GardenChessModel", name := "seed", desc := "(I)Z" } : Jvm.MethodName) prog_25_method_113_code (2 : Nat) (Option.some Jvm.ClassFile.FieldType.boolean)) ∈ lw_all := lw_g (lw_at lw_m11 144 rfl) rfl
theorem q2707 : (Jvm.Cond.instanceMethod ({ cls := "GardenChessModel", name := "chance", desc := "(I)I" } : Jvm.MethodName)) ∈ lw_all := lw_g (lw_at lw_m11 146 rfl) rfl
theorem q2708 : (Jvm.Cond.selects "GardenChessModel" ({ cls := "GardenChessModel", name := "chance", desc := "(I)I" } : Jvm.MethodName) ({ cls := "GardenChessModel", name := "chance", desc := "(I)I" } : Jvm.MethodName)) ∈ lw_all := lw_g (lw_at lw_m11 147 rfl) rfl
theorem q2709 : (Jvm.Cond.code ({ cls := "GardenChessModel", name := "chance", desc := "(I)I" } : Jvm.MethodName) prog_25_method_115_code (5 : Nat) (Option.some Jvm.ClassFile.FieldType.int)) ∈ lw_all := lw_g (lw_at lw_m11 148 rfl) rfl
theorem q2710 : (Jvm.Cond.methodLink "GardenChessModel" (676 : Nat) ({ cls := "GardenChessModel", name := "drawOf", desc := "(I)I" } : Jvm.MethodName)) ∈ lw_all := lw_g (lw_at lw_m11 149 rfl) rfl
theorem q2711 : (Jvm.Cond.privateMethod ({ cls := "GardenChessModel", name := "drawOf", desc := "(I)I" } : Jvm.MethodName)) ∈ lw_tbl := lw_at lw_m11 150 rfl
theorem q2712 : (Jvm.Cond.instanceMethod ({ cls := "GardenChessModel", name := "drawOf", desc := "(I)I" } : Jvm.MethodName)) ∈ lw_all := lw_g (lw_at lw_m11 151 rfl) rfl
theorem q2713 : (Jvm.Cond.code ({ cls := "GardenChessModel", name := "drawOf", desc := "(I)I" } : Jvm.MethodName) prog_25_method_114_code (2 : Nat) (Option.some Jvm.ClassFile.FieldType.int)) ∈ lw_all := lw_g (lw_at lw_m11 152 rfl) rfl
theorem q2714 : (Jvm.Cond.constantLong "GardenChessModel" (668 : Nat) (1103515245 : Int64)) ∈ lw_all := lw_g (lw_at lw_m11 153 rfl) rfl
theorem q2715 : (Jvm.Cond.constantLong "GardenChessModel" (670 : Nat) (12345 : Int64)) ∈ lw_all := lw_g (lw_at lw_m11 154 rfl) rfl
theorem q2716 : (Jvm.Cond.constantLong "GardenChessModel" (672 : Nat) (2147483648 : Int64)) ∈ lw_all := lw_g (lw_at lw_m11 155 rfl) rfl
theorem q2717 : (Jvm.Cond.constantLong "GardenChessModel" (674 : Nat) (64 : Int64)) ∈ lw_all := lw_g (lw_at lw_m11 156 rfl) rfl
theorem q2719 : (Jvm.Cond.instanceMethod ({ cls := "GardenChessModel", name := "ask", desc := "()J" } : Jvm.MethodName)) ∈ lw_all := lw_g (lw_at lw_m11 158 rfl) rfl
theorem q2720 : (Jvm.Cond.selects "GardenChessModel" ({ cls := "GardenChessModel", name := "ask", desc := "()J" } : Jvm.MethodName) ({ cls := "GardenChessModel", name := "ask", desc := "()J" } : Jvm.MethodName)) ∈ lw_all := lw_g (lw_at lw_m11 159 rfl) rfl
theorem q2721 : (Jvm.Cond.code ({ cls := "GardenChessModel", name := "ask", desc := "()J" } : Jvm.MethodName) prog_25_method_144_code (3 : Nat) (Option.some Jvm.ClassFile.FieldType.long)) ∈ lw_all := lw_g (lw_at lw_m11 160 rfl) rfl
theorem q2722 : (Jvm.Cond.methodLink "GardenChessModel" (757 : Nat) ({ cls := "GardenChessModel", name := "qKind", desc := "()I" } : Jvm.MethodName)) ∈ lw_all := lw_g (lw_at lw_m11 161 rfl) rfl
theorem q2723 : (Jvm.Cond.privateMethod ({ cls := "GardenChessModel", name := "qKind", desc := "()I" } : Jvm.MethodName)) ∈ lw_tbl := lw_at lw_m11 162 rfl
theorem q2724 : (Jvm.Cond.instanceMethod ({ cls := "GardenChessModel", name := "qKind", desc := "()I" } : Jvm.MethodName)) ∈ lw_all := lw_g (lw_at lw_m11 163 rfl) rfl
theorem q2725 : (Jvm.Cond.code ({ cls := "GardenChessModel", name := "qKind", desc := "()I" } : Jvm.MethodName) prog_25_method_142_code (2 : Nat) (Option.some Jvm.ClassFile.FieldType.int)) ∈ lw_all := lw_g (lw_at lw_m11 164 rfl) rfl
theorem q2726 : (Jvm.Cond.methodLink "GardenChessModel" (760 : Nat) ({ cls := "GardenChessModel", name := "qTest", desc := "()V" } : Jvm.MethodName)) ∈ lw_all := lw_g (lw_at lw_m11 165 rfl) rfl
theorem q2727 : (Jvm.Cond.privateMethod ({ cls := "GardenChessModel", name := "qTest", desc := "()V" } : Jvm.MethodName)) ∈ lw_tbl := lw_at lw_m11 166 rfl
theorem q2728 : (Jvm.Cond.instanceMethod ({ cls := "GardenChessModel", name := "qTest", desc := "()V" } : Jvm.MethodName)) ∈ lw_all := lw_g (lw_at lw_m11 167 rfl) rfl
theorem q2729 : (Jvm.Cond.code ({ cls := "GardenChessModel", name := "qTest", desc := "()V" } : Jvm.MethodName) prog_25_method_133_code (3 : Nat) (Option.none : Option Jvm.ClassFile.FieldType)) ∈ lw_all := lw_g (lw_at lw_m11 168 rfl) rfl
theorem q2730 : (Jvm.Cond.methodLink "GardenChessModel" (721 : Nat) ({ cls := "GardenChessModel", name := "qFact", desc := "()V" } : Jvm.MethodName)) ∈ lw_all := lw_g (lw_at lw_m11 169 rfl) rfl
theorem q2731 : (Jvm.Cond.privateMethod ({ cls := "GardenChessModel", name := "qFact", desc := "()V" } : Jvm.MethodName)) ∈ lw_tbl := lw_at lw_m11 170 rfl
theorem q2732 : (Jvm.Cond.instanceMethod ({ cls := "GardenChessModel", name := "qFact", desc := "()V" } : Jvm.MethodName)) ∈ lw_all := lw_g (lw_at lw_m11 171 rfl) rfl
theorem q2733 : (Jvm.Cond.code ({ cls := "GardenChessModel", name := "qFact", desc := "()V" } : Jvm.MethodName) prog_25_method_130_code (2 : Nat) (Option.none : Option Jvm.ClassFile.FieldType)) ∈ lw_all := lw_g (lw_at lw_m11 172 rfl) rfl
theorem q2734 : (Jvm.Cond.methodLink "GardenChessModel" (724 : Nat) ({ cls := "GardenChessModel", name := "qDropsNots", desc := "()V" } : Jvm.MethodName)) ∈ lw_all := lw_g (lw_at lw_m11 173 rfl) rfl
theorem q2735 : (Jvm.Cond.privateMethod ({ cls := "GardenChessModel", name := "qDropsNots", desc := "()V" } : Jvm.MethodName)) ∈ lw_tbl := lw_at lw_m11 174 rfl
theorem q2736 : (Jvm.Cond.instanceMethod ({ cls := "GardenChessModel", name := "qDropsNots", desc := "()V" } : Jvm.MethodName)) ∈ lw_all := lw_g (lw_at lw_m11 175 rfl) rfl
theorem q2737 : (Jvm.Cond.code ({ cls := "GardenChessModel", name := "qDropsNots", desc := "()V" } : Jvm.MethodName) prog_25_method_132_code (1 : Nat) (Option.none : Option Jvm.ClassFile.FieldType)) ∈ lw_all := lw_g (lw_at lw_m11 176 rfl) rfl
theorem q2738 : (Jvm.Cond.methodLink "GardenChessModel" (727 : Nat) ({ cls := "GardenChessModel", name := "qGoesOnTest", desc := "()Z" } : Jvm.MethodName)) ∈ lw_all := lw_g (lw_at lw_m11 177 rfl) rfl
theorem q2739 : (Jvm.Cond.privateMethod ({ cls := "GardenChessModel", name := "qGoesOnTest", desc := "()Z" } : Jvm.MethodName)) ∈ lw_tbl := lw_at lw_m11 178 rfl
theorem q2740 : (Jvm.Cond.instanceMethod ({ cls := "GardenChessModel", name := "qGoesOnTest", desc := "()Z" } : Jvm.MethodName)) ∈ lw_all := lw_g (lw_at lw_m11 179 rfl) rfl
theorem q2741 : (Jvm.Cond.code ({ cls := "GardenChessModel", name := "qGoesOnTest", desc := "()Z" } : Jvm.MethodName) prog_25_method_134_code (1 : Nat) (Option.some Jvm.ClassFile.FieldType.boolean)) ∈ lw_all := lw_g (lw_at lw_m11 180 rfl) rfl
theorem q2742 : (Jvm.Cond.methodLink "GardenChessModel" (730 : Nat) ({ cls := "GardenChessModel", name := "qHasSquare", desc := "()Z" } : Jvm.MethodName)) ∈ lw_all := lw_g (lw_at lw_m11 181 rfl) rfl
theorem q2743 : (Jvm.Cond.privateMethod ({ cls := "GardenChessModel", name := "qHasSquare", desc := "()Z" } : Jvm.MethodName)) ∈ lw_tbl := lw_at lw_m11 182 rfl
theorem q2744 : (Jvm.Cond.instanceMethod ({ cls := "GardenChessModel", name := "qHasSquare", desc := "()Z" } : Jvm.MethodName)) ∈ lw_all := lw_g (lw_at lw_m11 183 rfl) rfl
theorem q2745 : (Jvm.Cond.code ({ cls := "GardenChessModel", name := "qHasSquare", desc := "()Z" } : Jvm.MethodName) prog_25_method_131_code (2 : Nat) (Option.some Jvm.ClassFile.FieldType.boolean)) ∈ lw_all := lw_g (lw_at lw_m11 184 rfl) rfl
theorem q2746 : (Jvm.Cond.constantLong "GardenChessModel" (752 : Nat) (-1 : Int64)) ∈ lw_all := lw_g (lw_at lw_m11 185 rfl) rfl
theorem q2747 : (Jvm.Cond.methodLink "GardenChessModel" (763 : Nat) ({ cls := "GardenChessModel", name := "qTold", desc := "(I)J" } : Jvm.MethodName)) ∈ lw_all := lw_g (lw_at lw_m11 186 rfl) rfl
theorem q2748 : (Jvm.Cond.privateMethod ({ cls := "GardenChessModel", name := "qTold", desc := "(I)J" } : Jvm.MethodName)) ∈ lw_tbl := lw_at lw_m11 187 rfl
theorem q2749 : (Jvm.Cond.instanceMethod ({ cls := "GardenChessModel", name := "qTold", desc := "(I)J" } : Jvm.MethodName)) ∈ lw_all := lw_g (lw_at lw_m11 188 rfl) rfl
theorem q2750 : (Jvm.Cond.code ({ cls := "GardenChessModel", name := "qTold", desc := "(I)J" } : Jvm.MethodName) prog_25_method_141_code (4 : Nat) (Option.some Jvm.ClassFile.FieldType.long)) ∈ lw_all := lw_g (lw_at lw_m11 189 rfl) rfl
theorem q2751 : (Jvm.Cond.methodLink "GardenChessModel" (745 : Nat) ({ cls := "GardenChessModel", name := "qOf", desc := "(IJI)J" } : Jvm.MethodName)) ∈ lw_all := lw_g (lw_at lw_m11 190 rfl) rfl
theorem q2752 : (Jvm.Cond.privateMethod ({ cls := "GardenChessModel", name := "qOf", desc := "(IJI)J" } : Jvm.MethodName)) ∈ lw_tbl := lw_at lw_m11 191 rfl
theorem q2753 : (Jvm.Cond.instanceMethod ({ cls := "GardenChessModel", name := "qOf", desc := "(IJI)J" } : Jvm.MethodName)) ∈ lw_all := lw_g (lw_at lw_m11 192 rfl) rfl
theorem q2754 : (Jvm.Cond.code ({ cls := "GardenChessModel", name := "qOf", desc := "(IJI)J" } : Jvm.MethodName) prog_25_method_140_code (5 : Nat) (Option.some Jvm.ClassFile.FieldType.long)) ∈ lw_all := lw_g (lw_at lw_m11 193 rfl) rfl
theorem q2755 : (Jvm.Cond.methodLink "GardenChessModel" (767 : Nat) ({ cls := "GardenChessModel", name := "qTakes", desc := "(IJI)V" } : Jvm.MethodName)) ∈ lw_all := lw_g (lw_at lw_m11 194 rfl) rfl
theorem q2756 : (Jvm.Cond.privateMethod ({ cls := "GardenChessModel", name := "qTakes", desc := "(IJI)V" } : Jvm.MethodName)) ∈ lw_tbl := lw_at lw_m11 195 rfl
theorem q2757 : (Jvm.Cond.instanceMethod ({ cls := "GardenChessModel", name := "qTakes", desc := "(IJI)V" } : Jvm.MethodName)) ∈ lw_all := lw_g (lw_at lw_m11 196 rfl) rfl
theorem q2758 : (Jvm.Cond.code ({ cls := "GardenChessModel", name := "qTakes", desc := "(IJI)V" } : Jvm.MethodName) prog_25_method_143_code (6 : Nat) (Option.none : Option Jvm.ClassFile.FieldType)) ∈ lw_all := lw_g (lw_at lw_m11 197 rfl) rfl
theorem q2760 : (Jvm.Cond.instanceMethod ({ cls := "GardenChessModel", name := "image", desc := "()I" } : Jvm.MethodName)) ∈ lw_all := lw_g (lw_at lw_m11 199 rfl) rfl
theorem q2761 : (Jvm.Cond.selects "GardenChessModel" ({ cls := "GardenChessModel", name := "image", desc := "()I" } : Jvm.MethodName) ({ cls := "GardenChessModel", name := "image", desc := "()I" } : Jvm.MethodName)) ∈ lw_all := lw_g (lw_at lw_m11 200 rfl) rfl
theorem q2762 : (Jvm.Cond.code ({ cls := "GardenChessModel", name := "image", desc := "()I" } : Jvm.MethodName) prog_25_method_147_code (2 : Nat) (Option.some Jvm.ClassFile.FieldType.int)) ∈ lw_all := lw_g (lw_at lw_m11 201 rfl) rfl
theorem q2763 : (Jvm.Cond.methodLink "GardenChessModel" (774 : Nat) ({ cls := "GardenChessModel", name := "writes", desc := "(I)V" } : Jvm.MethodName)) ∈ lw_all := lw_g (lw_at lw_m11 202 rfl) rfl
theorem q2764 : (Jvm.Cond.privateMethod ({ cls := "GardenChessModel", name := "writes", desc := "(I)V" } : Jvm.MethodName)) ∈ lw_tbl := lw_at lw_m11 203 rfl
theorem q2765 : (Jvm.Cond.instanceMethod ({ cls := "GardenChessModel", name := "writes", desc := "(I)V" } : Jvm.MethodName)) ∈ lw_all := lw_g (lw_at lw_m11 204 rfl) rfl
theorem q2766 : (Jvm.Cond.code ({ cls := "GardenChessModel", name := "writes", desc := "(I)V" } : Jvm.MethodName) prog_25_method_146_code (2 : Nat) (Option.none : Option Jvm.ClassFile.FieldType)) ∈ lw_all := lw_g (lw_at lw_m11 205 rfl) rfl
theorem q2767 : (Jvm.Cond.methodLink "GardenChessModel" (777 : Nat) ({ cls := "GardenChessModel", name := "checked", desc := "([II)I" } : Jvm.MethodName)) ∈ lw_all := lw_g (lw_at lw_m11 206 rfl) rfl
theorem q2768 : (Jvm.Cond.static ({ cls := "GardenChessModel", name := "checked", desc := "([II)I" } : Jvm.MethodName)) ∈ lw_all := lw_g (lw_at lw_m11 207 rfl) rfl
theorem q2769 : (Jvm.Cond.code ({ cls := "GardenChessModel", name := "checked", desc := "([II)I" } : Jvm.MethodName) prog_25_method_145_code (4 : Nat) (Option.some Jvm.ClassFile.FieldType.int)) ∈ lw_all := lw_g (lw_at lw_m11 208 rfl) rfl
theorem q2771 : (Jvm.Cond.instanceMethod ({ cls := "GardenChessModel", name := "octet", desc := "(I)I" } : Jvm.MethodName)) ∈ lw_all := lw_g (lw_at lw_m11 210 rfl) rfl
theorem q2772 : (Jvm.Cond.selects "GardenChessModel" ({ cls := "GardenChessModel", name := "octet", desc := "(I)I" } : Jvm.MethodName) ({ cls := "GardenChessModel", name := "octet", desc := "(I)I" } : Jvm.MethodName)) ∈ lw_all := lw_g (lw_at lw_m11 211 rfl) rfl
theorem q2773 : (Jvm.Cond.code ({ cls := "GardenChessModel", name := "octet", desc := "(I)I" } : Jvm.MethodName) prog_25_method_148_code (2 : Nat) (Option.some Jvm.ClassFile.FieldType.int)) ∈ lw_all := lw_g (lw_at lw_m11 212 rfl) rfl
theorem q2775 : (Jvm.Cond.instanceMethod ({ cls := "GardenChessModel", name := "on", desc := "()Z" } : Jvm.MethodName)) ∈ lw_all := lw_g (lw_at lw_m11 214 rfl) rfl
theorem q2776 : (Jvm.Cond.selects "GardenChessModel" ({ cls := "GardenChessModel", name := "on", desc := "()Z" } : Jvm.MethodName) ({ cls := "GardenChessModel", name := "on", desc := "()Z" } : Jvm.MethodName)) ∈ lw_all := lw_g (lw_at lw_m11 215 rfl) rfl
theorem q2777 : (Jvm.Cond.code ({ cls := "GardenChessModel", name := "on", desc := "()Z" } : Jvm.MethodName) prog_25_method_150_code (4 : Nat) (Option.some Jvm.ClassFile.FieldType.boolean)) ∈ lw_all := lw_g (lw_at lw_m11 216 rfl) rfl
theorem q2778 : (Jvm.Cond.methodLink "GardenChessModel" (781 : Nat) ({ cls := "GardenChessModel", name := "isImage", desc := "(I)Z" } : Jvm.MethodName)) ∈ lw_all := lw_g (lw_at lw_m11 217 rfl) rfl
theorem q2779 : (Jvm.Cond.privateMethod ({ cls := "GardenChessModel", name := "isImage", desc := "(I)Z" } : Jvm.MethodName)) ∈ lw_tbl := lw_at lw_m11 218 rfl
theorem q2780 : (Jvm.Cond.instanceMethod ({ cls := "GardenChessModel", name := "isImage", desc := "(I)Z" } : Jvm.MethodName)) ∈ lw_all := lw_g (lw_at lw_m11 219 rfl) rfl
theorem q2781 : (Jvm.Cond.code ({ cls := "GardenChessModel", name := "isImage", desc := "(I)Z" } : Jvm.MethodName) prog_25_method_149_code (4 : Nat) (Option.some Jvm.ClassFile.FieldType.boolean)) ∈ lw_all := lw_g (lw_at lw_m11 220 rfl) rfl
theorem q2783 : (Jvm.Cond.instanceMethod ({ cls := "GardenChessModel", name := "status", desc := "(I)I" } : Jvm.MethodName)) ∈ lw_all := lw_g (lw_at lw_m11 222 rfl) rfl
theorem q2784 : (Jvm.Cond.selects "GardenChessModel" ({ cls := "GardenChessModel", name := "status", desc := "(I)I" } : Jvm.MethodName) ({ cls := "GardenChessModel", name := "status", desc := "(I)I" } : Jvm.MethodName)) ∈ lw_all := lw_g (lw_at lw_m11 223 rfl) rfl
theorem q2785 : (Jvm.Cond.code ({ cls := "GardenChessModel", name := "status", desc := "(I)I" } : Jvm.MethodName) prog_25_method_151_code (2 : Nat) (Option.some Jvm.ClassFile.FieldType.int)) ∈ lw_all := lw_g (lw_at lw_m11 224 rfl) rfl
theorem q2814 : (Jvm.Cond.castable "GardenChessModel" "java/lang/Object") ∈ lw_tbl := lw_at lw_m12 13 rfl
theorem q182 : (Jvm.Cond.initialized "GardenChess$Named") ∈ lw_all := lw_g (lw_at lw_m1 21 rfl) rfl
theorem q880 : (Jvm.Cond.static ({ cls := "GardenChess$Named", name := "find", desc := "(Ljava/util/List;Ljava/lang/String;)I" } : Jvm.MethodName)) ∈ lw_all := lw_g (lw_at lw_m3 239 rfl) rfl
theorem q881 : (Jvm.Cond.code ({ cls := "GardenChess$Named", name := "find", desc := "(Ljava/util/List;Ljava/lang/String;)I" } : Jvm.MethodName) prog_15_method_2_code (3 : Nat) (Option.some Jvm.ClassFile.FieldType.int)) ∈ lw_all := lw_g (lw_at lw_m4 0 rfl) rfl
theorem q882 : (Jvm.Cond.interfaceEntry "GardenChess$Named" (15 : Nat)) ∈ lw_tbl := lw_at lw_m4 1 rfl
theorem q883 : (Jvm.Cond.methodLink "GardenChess$Named" (15 : Nat) ({ cls := "java/util/List", name := "size", desc := "()I" } : Jvm.MethodName)) ∈ lw_all := lw_g (lw_at lw_m4 2 rfl) rfl
theorem q884 : (Jvm.Cond.interfaceEntry "GardenChess$Named" (21 : Nat)) ∈ lw_tbl := lw_at lw_m4 3 rfl
theorem q885 : (Jvm.Cond.methodLink "GardenChess$Named" (21 : Nat) ({ cls := "java/util/List", name := "get", desc := "(I)Ljava/lang/Object;" } : Jvm.MethodName)) ∈ lw_all := lw_g (lw_at lw_m4 4 rfl) rfl
theorem q886 : (Jvm.Cond.classLink "GardenChess$Named" (10 : Nat) "GardenChess$Named") ∈ lw_all := lw_g (lw_at lw_m4 5 rfl) rfl
theorem q887 : (Jvm.Cond.methodLink "GardenChess$Named" (25 : Nat) ({ cls := "java/lang/String", name := "equals", desc := "(Ljava/lang/Object;)Z" } : Jvm.MethodName)) ∈ lw_all := lw_g (lw_at lw_m4 6 rfl) rfl
theorem q897 : (Jvm.Cond.instanceMethod ({ cls := "GardenChess$Named", name := "<init>", desc := "(Ljava/lang/String;)V" } : Jvm.MethodName)) ∈ lw_all := lw_g (lw_at lw_m4 16 rfl) rfl
theorem q898 : (Jvm.Cond.code ({ cls := "GardenChess$Named", name := "<init>", desc := "(Ljava/lang/String;)V" } : Jvm.MethodName) prog_15_method_1_code (2 : Nat) (Option.none : Option Jvm.ClassFile.FieldType)) ∈ lw_all := lw_g (lw_at lw_m4 17 rfl) rfl
theorem q899 : (Jvm.Cond.methodLink "GardenChess$Named" (3 : Nat) ({ cls := "java/lang/Object", name := "<init>", desc := "()V" } : Jvm.MethodName)) ∈ lw_all := lw_g (lw_at lw_m4 18 rfl) rfl
theorem q912 : (Jvm.Cond.fieldLink "GardenChess$Named" (9 : Nat) "GardenChess$Named" "name" "Ljava/lang/String;") ∈ lw_all := lw_g (lw_at lw_m4 31 rfl) rfl
theorem q922 : (Jvm.Cond.soleField "GardenChess$Named" "name") ∈ lw_all := lw_g (lw_at lw_m4 41 rfl) rfl
theorem q1333 : (Jvm.Cond.instanceMethod ({ cls := "GardenChess$Named", name := "letter", desc := "(I)I" } : Jvm.MethodName)) ∈ lw_all := lw_g (lw_at lw_m5 212 rfl) rfl
theorem q1334 : (Jvm.Cond.sameMethod "GardenChess$Named" "GardenChess$Named" "letter" "(I)I") ∈ lw_all := lw_g (lw_at lw_m5 213 rfl) rfl
theorem q1338 : (Jvm.Cond.code ({ cls := "GardenChess$Named", name := "letter", desc := "(I)I" } : Jvm.MethodName) prog_15_method_3_code (2 : Nat) (Option.some Jvm.ClassFile.FieldType.int)) ∈ lw_all := lw_g (lw_at lw_m5 217 rfl) rfl
theorem q1339 : (Jvm.Cond.methodLink "GardenChess$Named" (31 : Nat) ({ cls := "java/lang/String", name := "length", desc := "()I" } : Jvm.MethodName)) ∈ lw_all := lw_g (lw_at lw_m5 218 rfl) rfl
theorem q1340 : (Jvm.Cond.methodLink "GardenChess$Named" (34 : Nat) ({ cls := "java/lang/String", name := "charAt", desc := "(I)C" } : Jvm.MethodName)) ∈ lw_all := lw_g (lw_at lw_m5 219 rfl) rfl
theorem q183 : (Jvm.Cond.initialized "GardenChess$Kind") ∈ lw_all := lw_g (lw_at lw_m1 22 rfl) rfl
theorem q891 : (Jvm.Cond.instantiable "GardenChess$Kind" (5 : Nat)) ∈ lw_all := lw_g (lw_at lw_m4 10 rfl) rfl
theorem q894 : (Jvm.Cond.instanceMethod ({ cls := "GardenChess$Kind", name := "<init>", desc := "(Ljava/lang/String;III)V" } : Jvm.MethodName)) ∈ lw_all := lw_g (lw_at lw_m4 13 rfl) rfl
theorem q895 : (Jvm.Cond.code ({ cls := "GardenChess$Kind", name := "<init>", desc := "(Ljava/lang/String;III)V" } : Jvm.MethodName) prog_10_method_1_code (5 : Nat) (Option.none : Option Jvm.ClassFile.FieldType)) ∈ lw_all := lw_g (lw_at lw_m4 14 rfl) rfl
theorem q896 : (Jvm.Cond.methodLink "GardenChess$Kind" (1 : Nat) ({ cls := "GardenChess$Named", name := "<init>", desc := "(Ljava/lang/String;)V" } : Jvm.MethodName)) ∈ lw_all := lw_g (lw_at lw_m4 15 rfl) rfl
theorem q900 : (Jvm.Cond.fieldLink "GardenChess$Kind" (7 : Nat) "GardenChess$Kind" "ways" "I") ∈ lw_all := lw_g (lw_at lw_m4 19 rfl) rfl
theorem q903 : (Jvm.Cond.fieldLink "GardenChess$Kind" (13 : Nat) "GardenChess$Kind" "reach" "I") ∈ lw_all := lw_g (lw_at lw_m4 22 rfl) rfl
theorem q906 : (Jvm.Cond.fieldLink "GardenChess$Kind" (16 : Nat) "GardenChess$Kind" "worth" "I") ∈ lw_all := lw_g (lw_at lw_m4 25 rfl) rfl
theorem q913 : (Jvm.Cond.laysFinal "GardenChess$Kind" "GardenChess$Kind" "ways" "I") ∈ lw_all := lw_g (lw_at lw_m4 32 rfl) rfl
theorem q914 : (Jvm.Cond.soleField "GardenChess$Kind" "ways") ∈ lw_all := lw_g (lw_at lw_m4 33 rfl) rfl
theorem q915 : (Jvm.Cond.laysFinal "GardenChess$Kind" "GardenChess$Kind" "reach" "I") ∈ lw_all := lw_g (lw_at lw_m4 34 rfl) rfl
theorem q916 : (Jvm.Cond.soleField "GardenChess$Kind" "reach") ∈ lw_all := lw_g (lw_at lw_m4 35 rfl) rfl
theorem q917 : (Jvm.Cond.laysFinal "GardenChess$Kind" "GardenChess$Kind" "worth" "I") ∈ lw_all := lw_g (lw_at lw_m4 36 rfl) rfl
theorem q918 : (Jvm.Cond.soleField "GardenChess$Kind" "worth") ∈ lw_all := lw_g (lw_at lw_m4 37 rfl) rfl
theorem q919 : (Jvm.Cond.lays "GardenChess$Kind" "GardenChess$Kind" "isCrown" "Z") ∈ lw_all := lw_g (lw_at lw_m4 38 rfl) rfl
theorem q920 : (Jvm.Cond.soleField "GardenChess$Kind" "isCrown") ∈ lw_all := lw_g (lw_at lw_m4 39 rfl) rfl
theorem q921 : (Jvm.Cond.laysFinal "GardenChess$Kind" "GardenChess$Named" "name" "Ljava/lang/String;") ∈ lw_all := lw_g (lw_at lw_m4 40 rfl) rfl
theorem q923 : (Jvm.Cond.superclass "GardenChess$Kind" "GardenChess$Named") ∈ lw_all := lw_g (lw_at lw_m4 42 rfl) rfl
theorem q977 : (Jvm.Cond.selects "GardenChess$Kind" ({ cls := "java/lang/Object", name := "getClass", desc := "()Ljava/lang/Class;" } : Jvm.MethodName) ({ cls := "java/lang/Object", name := "getClass", desc := "()Ljava/lang/Class;" } : Jvm.MethodName)) ∈ lw_all := lw_g (lw_at lw_m4 96 rfl) rfl
theorem q1336 : (Jvm.Cond.selects "GardenChess$Kind" ({ cls := "GardenChess$Named", name := "letter", desc := "(I)I" } : Jvm.MethodName) ({ cls := "GardenChess$Named", name := "letter", desc := "(I)I" } : Jvm.MethodName)) ∈ lw_all := lw_g (lw_at lw_m5 215 rfl) rfl
theorem q2794 : (Jvm.Cond.castable "GardenChess$Kind" "GardenChess$Named") ∈ lw_tbl := lw_at lw_m11 233 rfl
theorem q2816 : (Jvm.Cond.castable "GardenChess$Kind" "java/lang/Object") ∈ lw_tbl := lw_at lw_m12 15 rfl
theorem q161 : (Jvm.Cond.initialized "GardenChessLaw") ∈ lw_all := lw_g (lw_at lw_m1 0 rfl) rfl
theorem q204 : (Jvm.Cond.classLink "GardenChessLaw" (7 : Nat) "GardenChess") ∈ lw_all := lw_g (lw_at lw_m1 43 rfl) rfl
theorem q206 : (Jvm.Cond.methodLink "GardenChessLaw" (9 : Nat) ({ cls := "GardenChess", name := "<init>", desc := "()V" } : Jvm.MethodName)) ∈ lw_all := lw_g (lw_at lw_m1 45 rfl) rfl
theorem q619 : (Jvm.Cond.methodLink "GardenChessLaw" (13 : Nat) ({ cls := "GardenChess", name := "feed", desc := "(IIIII)I" } : Jvm.MethodName)) ∈ lw_all := lw_g (lw_at lw_m2 218 rfl) rfl
theorem q631 : (Jvm.Cond.methodLink "GardenChessLaw" (18 : Nat) ({ cls := "GardenChess", name := "end", desc := "(I)Z" } : Jvm.MethodName)) ∈ lw_all := lw_g (lw_at lw_m2 230 rfl) rfl
theorem q635 : (Jvm.Cond.methodLink "GardenChessLaw" (23 : Nat) ({ cls := "GardenChess", name := "board", desc := "()I" } : Jvm.MethodName)) ∈ lw_all := lw_g (lw_at lw_m2 234 rfl) rfl
theorem q1281 : (Jvm.Cond.methodLink "GardenChessLaw" (28 : Nat) ({ cls := "GardenChess", name := "fault", desc := "(I)I" } : Jvm.MethodName)) ∈ lw_all := lw_g (lw_at lw_m5 160 rfl) rfl
theorem q1285 : (Jvm.Cond.methodLink "GardenChessLaw" (33 : Nat) ({ cls := "GardenChess", name := "has", desc := "(I)I" } : Jvm.MethodName)) ∈ lw_all := lw_g (lw_at lw_m5 164 rfl) rfl
theorem q1326 : (Jvm.Cond.methodLink "GardenChessLaw" (37 : Nat) ({ cls := "GardenChess", name := "letter", desc := "(III)I" } : Jvm.MethodName)) ∈ lw_all := lw_g (lw_at lw_m5 205 rfl) rfl
theorem q1351 : (Jvm.Cond.methodLink "GardenChessLaw" (42 : Nat) ({ cls := "GardenChess", name := "kind", desc := "(II)I" } : Jvm.MethodName)) ∈ lw_all := lw_g (lw_at lw_m5 230 rfl) rfl
theorem q1355 : (Jvm.Cond.methodLink "GardenChessLaw" (47 : Nat) ({ cls := "GardenChess", name := "man", desc := "(II)I" } : Jvm.MethodName)) ∈ lw_all := lw_g (lw_at lw_m5 234 rfl) rfl
theorem q1367 : (Jvm.Cond.methodLink "GardenChessLaw" (51 : Nat) ({ cls := "GardenChess", name := "field", desc := "(II)I" } : Jvm.MethodName)) ∈ lw_all := lw_g (lw_at lw_m6 6 rfl) rfl
theorem q1376 : (Jvm.Cond.methodLink "GardenChessLaw" (55 : Nat) ({ cls := "GardenChess", name := "at", desc := "(II)I" } : Jvm.MethodName)) ∈ lw_all := lw_g (lw_at lw_m6 15 rfl) rfl
theorem q1384 : (Jvm.Cond.methodLink "GardenChessLaw" (59 : Nat) ({ cls := "GardenChess", name := "option", desc := "(II)I" } : Jvm.MethodName)) ∈ lw_all := lw_g (lw_at lw_m6 23 rfl) rfl
theorem q1405 : (Jvm.Cond.methodLink "GardenChessLaw" (63 : Nat) ({ cls := "GardenChess", name := "kept", desc := "(II)I" } : Jvm.MethodName)) ∈ lw_all := lw_g (lw_at lw_m6 44 rfl) rfl
theorem q1409 : (Jvm.Cond.methodLink "GardenChessLaw" (67 : Nat) ({ cls := "GardenChess", name := "balance", desc := "(I)J" } : Jvm.MethodName)) ∈ lw_all := lw_g (lw_at lw_m6 48 rfl) rfl
theorem q1418 : (Jvm.Cond.methodLink "GardenChessLaw" (72 : Nat) ({ cls := "GardenChess", name := "value", desc := "(I)J" } : Jvm.MethodName)) ∈ lw_all := lw_g (lw_at lw_m6 57 rfl) rfl
theorem q1438 : (Jvm.Cond.methodLink "GardenChessLaw" (76 : Nat) ({ cls := "GardenChess", name := "best", desc := "(I)I" } : Jvm.MethodName)) ∈ lw_all := lw_g (lw_at lw_m6 77 rfl) rfl
theorem q1447 : (Jvm.Cond.methodLink "GardenChessLaw" (80 : Nat) ({ cls := "GardenChess", name := "forced", desc := "()I" } : Jvm.MethodName)) ∈ lw_all := lw_g (lw_at lw_m6 86 rfl) rfl
theorem q1461 : (Jvm.Cond.methodLink "GardenChessLaw" (84 : Nat) ({ cls := "GardenChess", name := "later", desc := "(II)I" } : Jvm.MethodName)) ∈ lw_all := lw_g (lw_at lw_m6 100 rfl) rfl
theorem q1558 : (Jvm.Cond.methodLink "GardenChessLaw" (88 : Nat) ({ cls := "GardenChess", name := "crop", desc := "(II)I" } : Jvm.MethodName)) ∈ lw_all := lw_g (lw_at lw_m6 197 rfl) rfl
theorem q1562 : (Jvm.Cond.methodLink "GardenChessLaw" (92 : Nat) ({ cls := "GardenChess", name := "spare", desc := "(III)I" } : Jvm.MethodName)) ∈ lw_all := lw_g (lw_at lw_m6 201 rfl) rfl
theorem q1567 : (Jvm.Cond.methodLink "GardenChessLaw" (96 : Nat) ({ cls := "GardenChess", name := "sow", desc := "(II)I" } : Jvm.MethodName)) ∈ lw_all := lw_g (lw_at lw_m6 206 rfl) rfl
theorem q1573 : (Jvm.Cond.methodLink "GardenChessLaw" (100 : Nat) ({ cls := "GardenChess", name := "deeper", desc := "(III)J" } : Jvm.MethodName)) ∈ lw_all := lw_g (lw_at lw_m6 212 rfl) rfl
theorem q1578 : (Jvm.Cond.methodLink "GardenChessLaw" (105 : Nat) ({ cls := "GardenChess", name := "see", desc := "()I" } : Jvm.MethodName)) ∈ lw_all := lw_g (lw_at lw_m6 217 rfl) rfl
theorem q1590 : (Jvm.Cond.methodLink "GardenChessLaw" (109 : Nat) ({ cls := "GardenChess", name := "played", desc := "(I)I" } : Jvm.MethodName)) ∈ lw_all := lw_g (lw_at lw_m6 229 rfl) rfl
theorem q1598 : (Jvm.Cond.methodLink "GardenChessLaw" (113 : Nat) ({ cls := "GardenChess", name := "reached", desc := "(I)I" } : Jvm.MethodName)) ∈ lw_all := lw_g (lw_at lw_m6 237 rfl) rfl
theorem q1611 : (Jvm.Cond.methodLink "GardenChessLaw" (133 : Nat) ({ cls := "GardenChess", name := "undo", desc := "()Z" } : Jvm.MethodName)) ∈ lw_all := lw_g (lw_at lw_m7 10 rfl) rfl
theorem q1615 : (Jvm.Cond.methodLink "GardenChessLaw" (117 : Nat) ({ cls := "GardenChess", name := "play", desc := "(I)I" } : Jvm.MethodName)) ∈ lw_all := lw_g (lw_at lw_m7 14 rfl) rfl
theorem q1623 : (Jvm.Cond.methodLink "GardenChessLaw" (121 : Nat) ({ cls := "GardenChess", name := "tend", desc := "(II)I" } : Jvm.MethodName)) ∈ lw_all := lw_g (lw_at lw_m7 22 rfl) rfl
theorem q1628 : (Jvm.Cond.methodLink "GardenChessLaw" (125 : Nat) ({ cls := "GardenChess", name := "days", desc := "(I)I" } : Jvm.MethodName)) ∈ lw_all := lw_g (lw_at lw_m7 27 rfl) rfl
theorem q1632 : (Jvm.Cond.methodLink "GardenChessLaw" (129 : Nat) ({ cls := "GardenChess", name := "chance", desc := "(I)I" } : Jvm.MethodName)) ∈ lw_all := lw_g (lw_at lw_m7 31 rfl) rfl
theorem q1644 : (Jvm.Cond.methodLink "GardenChessLaw" (138 : Nat) ({ cls := "GardenChess", name := "seed", desc := "(I)Z" } : Jvm.MethodName)) ∈ lw_all := lw_g (lw_at lw_m7 43 rfl) rfl
theorem q1648 : (Jvm.Cond.methodLink "GardenChessLaw" (142 : Nat) ({ cls := "GardenChess", name := "ask", desc := "()J" } : Jvm.MethodName)) ∈ lw_all := lw_g (lw_at lw_m7 47 rfl) rfl
theorem q1783 : (Jvm.Cond.methodLink "GardenChessLaw" (147 : Nat) ({ cls := "GardenChess", name := "image", desc := "()I" } : Jvm.MethodName)) ∈ lw_all := lw_g (lw_at lw_m7 182 rfl) rfl
theorem q1794 : (Jvm.Cond.methodLink "GardenChessLaw" (151 : Nat) ({ cls := "GardenChess", name := "octet", desc := "(I)I" } : Jvm.MethodName)) ∈ lw_all := lw_g (lw_at lw_m7 193 rfl) rfl
theorem q1798 : (Jvm.Cond.methodLink "GardenChessLaw" (155 : Nat) ({ cls := "GardenChess", name := "on", desc := "()Z" } : Jvm.MethodName)) ∈ lw_all := lw_g (lw_at lw_m7 197 rfl) rfl
theorem q1802 : (Jvm.Cond.methodLink "GardenChessLaw" (159 : Nat) ({ cls := "GardenChess", name := "status", desc := "(I)I" } : Jvm.MethodName)) ∈ lw_all := lw_g (lw_at lw_m7 201 rfl) rfl
theorem q1806 : (Jvm.Cond.classLink "GardenChessLaw" (10 : Nat) "GardenChessModel") ∈ lw_all := lw_g (lw_at lw_m7 205 rfl) rfl
theorem q1808 : (Jvm.Cond.methodLink "GardenChessLaw" (12 : Nat) ({ cls := "GardenChessModel", name := "<init>", desc := "()V" } : Jvm.MethodName)) ∈ lw_all := lw_g (lw_at lw_m7 207 rfl) rfl
theorem q2179 : (Jvm.Cond.methodLink "GardenChessLaw" (17 : Nat) ({ cls := "GardenChessModel", name := "feed", desc := "(IIIII)I" } : Jvm.MethodName)) ∈ lw_all := lw_g (lw_at lw_m9 98 rfl) rfl
theorem q2183 : (Jvm.Cond.methodLink "GardenChessLaw" (22 : Nat) ({ cls := "GardenChessModel", name := "end", desc := "(I)Z" } : Jvm.MethodName)) ∈ lw_all := lw_g (lw_at lw_m9 102 rfl) rfl
theorem q2187 : (Jvm.Cond.methodLink "GardenChessLaw" (27 : Nat) ({ cls := "GardenChessModel", name := "board", desc := "()I" } : Jvm.MethodName)) ∈ lw_all := lw_g (lw_at lw_m9 106 rfl) rfl
theorem q2349 : (Jvm.Cond.methodLink "GardenChessLaw" (32 : Nat) ({ cls := "GardenChessModel", name := "fault", desc := "(I)I" } : Jvm.MethodName)) ∈ lw_all := lw_g (lw_at lw_m10 28 rfl) rfl
theorem q2353 : (Jvm.Cond.methodLink "GardenChessLaw" (36 : Nat) ({ cls := "GardenChessModel", name := "has", desc := "(I)I" } : Jvm.MethodName)) ∈ lw_all := lw_g (lw_at lw_m10 32 rfl) rfl
theorem q2438 : (Jvm.Cond.methodLink "GardenChessLaw" (41 : Nat) ({ cls := "GardenChessModel", name := "letter", desc := "(III)I" } : Jvm.MethodName)) ∈ lw_all := lw_g (lw_at lw_m10 117 rfl) rfl
theorem q2444 : (Jvm.Cond.methodLink "GardenChessLaw" (46 : Nat) ({ cls := "GardenChessModel", name := "kind", desc := "(II)I" } : Jvm.MethodName)) ∈ lw_all := lw_g (lw_at lw_m10 123 rfl) rfl
theorem q2449 : (Jvm.Cond.methodLink "GardenChessLaw" (50 : Nat) ({ cls := "GardenChessModel", name := "man", desc := "(II)I" } : Jvm.MethodName)) ∈ lw_all := lw_g (lw_at lw_m10 128 rfl) rfl
theorem q2457 : (Jvm.Cond.methodLink "GardenChessLaw" (54 : Nat) ({ cls := "GardenChessModel", name := "field", desc := "(II)I" } : Jvm.MethodName)) ∈ lw_all := lw_g (lw_at lw_m10 136 rfl) rfl
theorem q2465 : (Jvm.Cond.methodLink "GardenChessLaw" (58 : Nat) ({ cls := "GardenChessModel", name := "at", desc := "(II)I" } : Jvm.MethodName)) ∈ lw_all := lw_g (lw_at lw_m10 144 rfl) rfl
theorem q2469 : (Jvm.Cond.methodLink "GardenChessLaw" (62 : Nat) ({ cls := "GardenChessModel", name := "option", desc := "(II)I" } : Jvm.MethodName)) ∈ lw_all := lw_g (lw_at lw_m10 148 rfl) rfl
theorem q2490 : (Jvm.Cond.methodLink "GardenChessLaw" (66 : Nat) ({ cls := "GardenChessModel", name := "kept", desc := "(II)I" } : Jvm.MethodName)) ∈ lw_all := lw_g (lw_at lw_m10 169 rfl) rfl
theorem q2494 : (Jvm.Cond.methodLink "GardenChessLaw" (71 : Nat) ({ cls := "GardenChessModel", name := "balance", desc := "(I)J" } : Jvm.MethodName)) ∈ lw_all := lw_g (lw_at lw_m10 173 rfl) rfl
theorem q2507 : (Jvm.Cond.methodLink "GardenChessLaw" (75 : Nat) ({ cls := "GardenChessModel", name := "value", desc := "(I)J" } : Jvm.MethodName)) ∈ lw_all := lw_g (lw_at lw_m10 186 rfl) rfl
theorem q2531 : (Jvm.Cond.methodLink "GardenChessLaw" (79 : Nat) ({ cls := "GardenChessModel", name := "best", desc := "(I)I" } : Jvm.MethodName)) ∈ lw_all := lw_g (lw_at lw_m10 210 rfl) rfl
theorem q2539 : (Jvm.Cond.methodLink "GardenChessLaw" (83 : Nat) ({ cls := "GardenChessModel", name := "forced", desc := "()I" } : Jvm.MethodName)) ∈ lw_all := lw_g (lw_at lw_m10 218 rfl) rfl
theorem q2551 : (Jvm.Cond.methodLink "GardenChessLaw" (87 : Nat) ({ cls := "GardenChessModel", name := "later", desc := "(II)I" } : Jvm.MethodName)) ∈ lw_all := lw_g (lw_at lw_m10 230 rfl) rfl
theorem q2615 : (Jvm.Cond.methodLink "GardenChessLaw" (91 : Nat) ({ cls := "GardenChessModel", name := "crop", desc := "(II)I" } : Jvm.MethodName)) ∈ lw_all := lw_g (lw_at lw_m11 54 rfl) rfl
theorem q2619 : (Jvm.Cond.methodLink "GardenChessLaw" (95 : Nat) ({ cls := "GardenChessModel", name := "spare", desc := "(III)I" } : Jvm.MethodName)) ∈ lw_all := lw_g (lw_at lw_m11 58 rfl) rfl
theorem q2627 : (Jvm.Cond.methodLink "GardenChessLaw" (99 : Nat) ({ cls := "GardenChessModel", name := "sow", desc := "(II)I" } : Jvm.MethodName)) ∈ lw_all := lw_g (lw_at lw_m11 66 rfl) rfl
theorem q2637 : (Jvm.Cond.methodLink "GardenChessLaw" (104 : Nat) ({ cls := "GardenChessModel", name := "deeper", desc := "(III)J" } : Jvm.MethodName)) ∈ lw_all := lw_g (lw_at lw_m11 76 rfl) rfl
theorem q2641 : (Jvm.Cond.methodLink "GardenChessLaw" (108 : Nat) ({ cls := "GardenChessModel", name := "see", desc := "()I" } : Jvm.MethodName)) ∈ lw_all := lw_g (lw_at lw_m11 80 rfl) rfl
theorem q2649 : (Jvm.Cond.methodLink "GardenChessLaw" (112 : Nat) ({ cls := "GardenChessModel", name := "played", desc := "(I)I" } : Jvm.MethodName)) ∈ lw_all := lw_g (lw_at lw_m11 88 rfl) rfl
theorem q2657 : (Jvm.Cond.methodLink "GardenChessLaw" (116 : Nat) ({ cls := "GardenChessModel", name := "reached", desc := "(I)I" } : Jvm.MethodName)) ∈ lw_all := lw_g (lw_at lw_m11 96 rfl) rfl
theorem q2681 : (Jvm.Cond.methodLink "GardenChessLaw" (137 : Nat) ({ cls := "GardenChessModel", name := "undo", desc := "()Z" } : Jvm.MethodName)) ∈ lw_all := lw_g (lw_at lw_m11 120 rfl) rfl
theorem q2685 : (Jvm.Cond.methodLink "GardenChessLaw" (120 : Nat) ({ cls := "GardenChessModel", name := "play", desc := "(I)I" } : Jvm.MethodName)) ∈ lw_all := lw_g (lw_at lw_m11 124 rfl) rfl
theorem q2693 : (Jvm.Cond.methodLink "GardenChessLaw" (124 : Nat) ({ cls := "GardenChessModel", name := "tend", desc := "(II)I" } : Jvm.MethodName)) ∈ lw_all := lw_g (lw_at lw_m11 132 rfl) rfl
theorem q2698 : (Jvm.Cond.methodLink "GardenChessLaw" (128 : Nat) ({ cls := "GardenChessModel", name := "days", desc := "(I)I" } : Jvm.MethodName)) ∈ lw_all := lw_g (lw_at lw_m11 137 rfl) rfl
theorem q2702 : (Jvm.Cond.methodLink "GardenChessLaw" (141 : Nat) ({ cls := "GardenChessModel", name := "seed", desc := "(I)Z" } : Jvm.MethodName)) ∈ lw_all := lw_g (lw_at lw_m11 141 rfl) rfl
theorem q2706 : (Jvm.Cond.methodLink "GardenChessLaw" (132 : Nat) ({ cls := "GardenChessModel", name := "chance", desc := "(I)I" } : Jvm.MethodName)) ∈ lw_all := lw_g (lw_at lw_m11 145 rfl) rfl
theorem q2718 : (Jvm.Cond.methodLink "GardenChessLaw" (146 : Nat) ({ cls := "GardenChessModel", name := "ask", desc := "()J" } : Jvm.MethodName)) ∈ lw_all := lw_g (lw_at lw_m11 157 rfl) rfl
theorem q2759 : (Jvm.Cond.methodLink "GardenChessLaw" (150 : Nat) ({ cls := "GardenChessModel", name := "image", desc := "()I" } : Jvm.MethodName)) ∈ lw_all := lw_g (lw_at lw_m11 198 rfl) rfl
theorem q2770 : (Jvm.Cond.methodLink "GardenChessLaw" (154 : Nat) ({ cls := "GardenChessModel", name := "octet", desc := "(I)I" } : Jvm.MethodName)) ∈ lw_all := lw_g (lw_at lw_m11 209 rfl) rfl
theorem q2774 : (Jvm.Cond.methodLink "GardenChessLaw" (158 : Nat) ({ cls := "GardenChessModel", name := "on", desc := "()Z" } : Jvm.MethodName)) ∈ lw_all := lw_g (lw_at lw_m11 213 rfl) rfl
theorem q2782 : (Jvm.Cond.methodLink "GardenChessLaw" (162 : Nat) ({ cls := "GardenChessModel", name := "status", desc := "(I)I" } : Jvm.MethodName)) ∈ lw_all := lw_g (lw_at lw_m11 221 rfl) rfl
theorem q1228 : (Jvm.Cond.sameMethod "[B" "java/lang/Object" "clone" "()Ljava/lang/Object;") ∈ lw_all := lw_g (lw_at lw_m5 107 rfl) rfl
theorem q1231 : (Jvm.Cond.selects "[B" ({ cls := "[B", name := "clone", desc := "()Ljava/lang/Object;" } : Jvm.MethodName) ({ cls := "java/lang/Object", name := "clone", desc := "()Ljava/lang/Object;" } : Jvm.MethodName)) ∈ lw_all := lw_g (lw_at lw_m5 110 rfl) rfl
theorem q1232 : (Jvm.Cond.castable "[B" "java/lang/Cloneable") ∈ lw_tbl := lw_at lw_m5 111 rfl
theorem q2836 : (Jvm.Cond.castable "[B" "java/lang/Object") ∈ lw_tbl := lw_at lw_m12 35 rfl
theorem q2841 : (Jvm.Cond.castable "[C" "java/lang/Object") ∈ lw_tbl := lw_at lw_m12 40 rfl
theorem q2835 : (Jvm.Cond.castable "[I" "java/lang/Object") ∈ lw_tbl := lw_at lw_m12 34 rfl
theorem q2837 : (Jvm.Cond.castable "[J" "java/lang/Object") ∈ lw_tbl := lw_at lw_m12 36 rfl
theorem q2838 : (Jvm.Cond.castable "[LGardenChess$Moves;" "java/lang/Object") ∈ lw_tbl := lw_at lw_m12 37 rfl
theorem q2840 : (Jvm.Cond.castable "[LGardenChess$State;" "java/lang/Object") ∈ lw_tbl := lw_at lw_m12 39 rfl
theorem q2831 : (Jvm.Cond.sameMethod "[Ljava/lang/Object;" "java/lang/Object" "getClass" "()Ljava/lang/Class;") ∈ lw_all := lw_g (lw_at lw_m12 30 rfl) rfl
theorem q2832 : (Jvm.Cond.selects "[Ljava/lang/Object;" ({ cls := "java/lang/Object", name := "getClass", desc := "()Ljava/lang/Class;" } : Jvm.MethodName) ({ cls := "java/lang/Object", name := "getClass", desc := "()Ljava/lang/Class;" } : Jvm.MethodName)) ∈ lw_all := lw_g (lw_at lw_m12 31 rfl) rfl
theorem q2834 : (Jvm.Cond.castable "[Ljava/lang/Object;" "java/lang/Object") ∈ lw_tbl := lw_at lw_m12 33 rfl
theorem q2842 : (Jvm.Cond.castable "[Ljava/lang/String;" "java/lang/Object") ∈ lw_tbl := lw_at lw_m12 41 rfl
theorem q2839 : (Jvm.Cond.castable "[[I" "java/lang/Object") ∈ lw_tbl := lw_at lw_m12 38 rfl
theorem q186 : (Jvm.Cond.initialized "java/lang/System") ∈ lw_all := lw_g (lw_at lw_m1 25 rfl) rfl
theorem q1003 : (Jvm.Cond.static ({ cls := "java/lang/System", name := "arraycopy", desc := "(Ljava/lang/Object;ILjava/lang/Object;II)V" } : Jvm.MethodName)) ∈ lw_all := lw_g (lw_at lw_m4 122 rfl) rfl
theorem q1004 : (Jvm.Cond.native ({ cls := "java/lang/System", name := "arraycopy", desc := "(Ljava/lang/Object;ILjava/lang/Object;II)V" } : Jvm.MethodName)) ∈ lw_all := lw_g (lw_at lw_m4 123 rfl) rfl
theorem q501 : (Jvm.Cond.interfaceMethod "java/util/List" "java/util/List" "size" "()I") ∈ lw_tbl := lw_at lw_m2 100 rfl
theorem q502 : (Jvm.Cond.declares ({ cls := "java/util/List", name := "size", desc := "()I" } : Jvm.MethodName)) ∈ lw_tbl := lw_at lw_m2 101 rfl
theorem q519 : (Jvm.Cond.interfaceMethod "java/util/List" "java/util/List" "get" "(I)Ljava/lang/Object;") ∈ lw_tbl := lw_at lw_m2 118 rfl
theorem q520 : (Jvm.Cond.declares ({ cls := "java/util/List", name := "get", desc := "(I)Ljava/lang/Object;" } : Jvm.MethodName)) ∈ lw_tbl := lw_at lw_m2 119 rfl
theorem q931 : (Jvm.Cond.interfaceMethod "java/util/List" "java/util/List" "add" "(Ljava/lang/Object;)Z") ∈ lw_tbl := lw_at lw_m4 50 rfl
theorem q932 : (Jvm.Cond.declares ({ cls := "java/util/List", name := "add", desc := "(Ljava/lang/Object;)Z" } : Jvm.MethodName)) ∈ lw_tbl := lw_at lw_m4 51 rfl
theorem q817 : (Jvm.Cond.interfaceMethod "jdk/internal/access/JavaLangAccess" "jdk/internal/access/JavaLangAccess" "getUTF16Char" "([BI)C") ∈ lw_tbl := lw_at lw_m3 176 rfl
theorem q818 : (Jvm.Cond.declares ({ cls := "jdk/internal/access/JavaLangAccess", name := "getUTF16Char", desc := "([BI)C" } : Jvm.MethodName)) ∈ lw_tbl := lw_at lw_m3 177 rfl
theorem q231 : (Jvm.Cond.arrayOver (Jvm.ClassFile.FieldType.object "java/lang/Object")) ∈ lw_tbl := lw_at lw_m1 70 rfl
theorem q246 : (Jvm.Cond.arrayClass Jvm.ClassFile.FieldType.int) ∈ lw_all := lw_g (lw_at lw_m1 85 rfl) rfl
theorem q374 : (Jvm.Cond.arrayClass Jvm.ClassFile.FieldType.byte) ∈ lw_all := lw_g (lw_at lw_m1 213 rfl) rfl
theorem q413 : (Jvm.Cond.arrayClass Jvm.ClassFile.FieldType.long) ∈ lw_all := lw_g (lw_at lw_m2 12 rfl) rfl
theorem q415 : (Jvm.Cond.arrayOver (Jvm.ClassFile.FieldType.object "GardenChess$Moves")) ∈ lw_tbl := lw_at lw_m2 14 rfl
theorem q444 : (Jvm.Cond.arrayOver (Jvm.ClassFile.FieldType.array Jvm.ClassFile.FieldType.int)) ∈ lw_tbl := lw_at lw_m2 43 rfl
theorem q490 : (Jvm.Cond.arrayOver (Jvm.ClassFile.FieldType.object "GardenChess$State")) ∈ lw_tbl := lw_at lw_m2 89 rfl
theorem q758 : (Jvm.Cond.arrayClass Jvm.ClassFile.FieldType.char) ∈ lw_all := lw_g (lw_at lw_m3 117 rfl) rfl
theorem q2843 : (Jvm.Cond.arrayClass Jvm.ClassFile.FieldType.short) ∈ lw_all := lw_g (lw_at lw_m12 42 rfl) rfl
theorem q2877 : (Jvm.Cond.arrayOver (Jvm.ClassFile.FieldType.object "java/lang/String")) ∈ lw_tbl := lw_at lw_m12 76 rfl
