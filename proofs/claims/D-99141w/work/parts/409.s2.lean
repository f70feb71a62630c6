set_option maxRecDepth 100000
abbrev cX8_find : ByteArray := prog_15_method_2_code
def yX8_find : MethodName := ⟨RX8, "find", "(Ljava/util/List;Ljava/lang/String;)I"⟩
def dkwX8_find_1 : List UInt8 := [180, 0, 9, 43, 182, 0, 25, 153, 0, 5, 28, 172, 132, 2, 1, 167, 255, 221, 2, 172]
abbrev dktX8_find_1 : List UInt8 := dkwX8_find_1 ++ []
def dkwX8_find_0 : List UInt8 := [3, 61, 28, 42, 185, 0, 15, 1, 0, 162, 0, 31, 42, 28, 185, 0, 21, 2, 0, 192, 0, 10]
abbrev dktX8_find_0 : List UInt8 := dkwX8_find_0 ++ dktX8_find_1
theorem dksX8_find_0 : cX8_find.data.toList.drop 0 = dktX8_find_0 := by decide +kernel
theorem dksX8_find_1 : cX8_find.data.toList.drop 22 = dktX8_find_1 := dk_seg dksX8_find_0 22 rfl rfl
theorem dX8_find_0 : decode cX8_find 0 = .ok (.iconst 0, 1) := dk_3 (dk_at dksX8_find_0 0 rfl rfl)
theorem dX8_find_1 : decode cX8_find 1 = .ok (.istore_n 2, 1) := dk_61 (dk_at dksX8_find_0 1 rfl rfl)
theorem dX8_find_2 : decode cX8_find 2 = .ok (.iload_n 2, 1) := dk_28 (dk_at dksX8_find_0 2 rfl rfl)
theorem dX8_find_3 : decode cX8_find 3 = .ok (.aload_n 0, 1) := dk_42 (dk_at dksX8_find_0 3 rfl rfl)
theorem dX8_find_4 : decode cX8_find 4 = .ok (.invokeinterface 15 1, 5) := by decide +kernel
theorem dX8_find_9 : decode cX8_find 9 = .ok (.if_icmp .ge 31, 3) := dk_162 0 31 (dk_at dksX8_find_0 9 rfl rfl)
theorem dX8_find_12 : decode cX8_find 12 = .ok (.aload_n 0, 1) := dk_42 (dk_at dksX8_find_0 12 rfl rfl)
theorem dX8_find_13 : decode cX8_find 13 = .ok (.iload_n 2, 1) := dk_28 (dk_at dksX8_find_0 13 rfl rfl)
theorem dX8_find_14 : decode cX8_find 14 = .ok (.invokeinterface 21 2, 5) := by decide +kernel
theorem dX8_find_19 : decode cX8_find 19 = .ok (.checkcast 10, 3) := dk_192 0 10 (dk_at dksX8_find_0 19 rfl rfl)
theorem dX8_find_22 : decode cX8_find 22 = .ok (.getfield 9, 3) := dk_180 0 9 (dk_at dksX8_find_1 0 rfl rfl)
theorem dX8_find_25 : decode cX8_find 25 = .ok (.aload_n 1, 1) := dk_43 (dk_at dksX8_find_1 3 rfl rfl)
theorem dX8_find_26 : decode cX8_find 26 = .ok (.invokevirtual 25, 3) := dk_182 0 25 (dk_at dksX8_find_1 4 rfl rfl)
theorem dX8_find_29 : decode cX8_find 29 = .ok (.ifCond .eq 5, 3) := dk_153 0 5 (dk_at dksX8_find_1 7 rfl rfl)
theorem dX8_find_32 : decode cX8_find 32 = .ok (.iload_n 2, 1) := dk_28 (dk_at dksX8_find_1 10 rfl rfl)
theorem dX8_find_33 : decode cX8_find 33 = .ok (.ireturn, 1) := dk_172 (dk_at dksX8_find_1 11 rfl rfl)
theorem dX8_find_34 : decode cX8_find 34 = .ok (.iinc 2 1, 3) := dk_132 2 1 (dk_at dksX8_find_1 12 rfl rfl)
theorem dX8_find_37 : decode cX8_find 37 = .ok (.goto (-35), 3) := dk_167 255 221 (dk_at dksX8_find_1 15 rfl rfl)
theorem dX8_find_40 : decode cX8_find 40 = .ok (.iconst (-1), 1) := dk_2 (dk_at dksX8_find_1 18 rfl rfl)
theorem dX8_find_41 : decode cX8_find 41 = .ok (.ireturn, 1) := dk_172 (dk_at dksX8_find_1 19 rfl rfl)
abbrev cX8_init : ByteArray := prog_15_method_1_code
def yX8_init : MethodName := ⟨RX8, "<init>", "(Ljava/lang/String;)V"⟩
def dkwX8_init_0 : List UInt8 := [42, 183, 0, 3, 42, 43, 181, 0, 9, 177]
abbrev dktX8_init_0 : List UInt8 := dkwX8_init_0 ++ []
theorem dksX8_init_0 : cX8_init.data.toList.drop 0 = dktX8_init_0 := by decide +kernel
theorem dX8_init_0 : decode cX8_init 0 = .ok (.aload_n 0, 1) := dk_42 (dk_at dksX8_init_0 0 rfl rfl)
theorem dX8_init_1 : decode cX8_init 1 = .ok (.invokespecial 3, 3) := dk_183 0 3 (dk_at dksX8_init_0 1 rfl rfl)
theorem dX8_init_4 : decode cX8_init 4 = .ok (.aload_n 0, 1) := dk_42 (dk_at dksX8_init_0 4 rfl rfl)
theorem dX8_init_5 : decode cX8_init 5 = .ok (.aload_n 1, 1) := dk_43 (dk_at dksX8_init_0 5 rfl rfl)
theorem dX8_init_6 : decode cX8_init 6 = .ok (.putfield 9, 3) := dk_181 0 9 (dk_at dksX8_init_0 6 rfl rfl)
theorem dX8_init_9 : decode cX8_init 9 = .ok (.return_, 1) := dk_177 (dk_at dksX8_init_0 9 rfl rfl)
abbrev cX8_letter : ByteArray := prog_15_method_3_code
def yX8_letter : MethodName := ⟨RX8, "letter", "(I)I"⟩
def dkwX8_letter_1 : List UInt8 := [167, 0, 4, 3, 172]
abbrev dktX8_letter_1 : List UInt8 := dkwX8_letter_1 ++ []
def dkwX8_letter_0 : List UInt8 := [27, 42, 180, 0, 9, 182, 0, 31, 162, 0, 19, 42, 180, 0, 9, 27, 182, 0, 34, 16, 97, 100, 4, 96]
abbrev dktX8_letter_0 : List UInt8 := dkwX8_letter_0 ++ dktX8_letter_1
theorem dksX8_letter_0 : cX8_letter.data.toList.drop 0 = dktX8_letter_0 := by decide +kernel
theorem dksX8_letter_1 : cX8_letter.data.toList.drop 24 = dktX8_letter_1 := dk_seg dksX8_letter_0 24 rfl rfl
theorem dX8_letter_0 : decode cX8_letter 0 = .ok (.iload_n 1, 1) := dk_27 (dk_at dksX8_letter_0 0 rfl rfl)
theorem dX8_letter_1 : decode cX8_letter 1 = .ok (.aload_n 0, 1) := dk_42 (dk_at dksX8_letter_0 1 rfl rfl)
theorem dX8_letter_2 : decode cX8_letter 2 = .ok (.getfield 9, 3) := dk_180 0 9 (dk_at dksX8_letter_0 2 rfl rfl)
theorem dX8_letter_5 : decode cX8_letter 5 = .ok (.invokevirtual 31, 3) := dk_182 0 31 (dk_at dksX8_letter_0 5 rfl rfl)
theorem dX8_letter_8 : decode cX8_letter 8 = .ok (.if_icmp .ge 19, 3) := dk_162 0 19 (dk_at dksX8_letter_0 8 rfl rfl)
theorem dX8_letter_11 : decode cX8_letter 11 = .ok (.aload_n 0, 1) := dk_42 (dk_at dksX8_letter_0 11 rfl rfl)
theorem dX8_letter_12 : decode cX8_letter 12 = .ok (.getfield 9, 3) := dk_180 0 9 (dk_at dksX8_letter_0 12 rfl rfl)
theorem dX8_letter_15 : decode cX8_letter 15 = .ok (.iload_n 1, 1) := dk_27 (dk_at dksX8_letter_0 15 rfl rfl)
theorem dX8_letter_16 : decode cX8_letter 16 = .ok (.invokevirtual 34, 3) := dk_182 0 34 (dk_at dksX8_letter_0 16 rfl rfl)
theorem dX8_letter_19 : decode cX8_letter 19 = .ok (.bipush 97, 2) := dk_16 97 (dk_at dksX8_letter_0 19 rfl rfl)
theorem dX8_letter_21 : decode cX8_letter 21 = .ok (.isub, 1) := dk_100 (dk_at dksX8_letter_0 21 rfl rfl)
theorem dX8_letter_22 : decode cX8_letter 22 = .ok (.iconst 1, 1) := dk_4 (dk_at dksX8_letter_0 22 rfl rfl)
theorem dX8_letter_23 : decode cX8_letter 23 = .ok (.iadd, 1) := dk_96 (dk_at dksX8_letter_0 23 rfl rfl)
theorem dX8_letter_24 : decode cX8_letter 24 = .ok (.goto 4, 3) := dk_167 0 4 (dk_at dksX8_letter_1 0 rfl rfl)
theorem dX8_letter_27 : decode cX8_letter 27 = .ok (.iconst 0, 1) := dk_3 (dk_at dksX8_letter_1 3 rfl rfl)
theorem dX8_letter_28 : decode cX8_letter 28 = .ok (.ireturn, 1) := dk_172 (dk_at dksX8_letter_1 4 rfl rfl)
abbrev cX9_init : ByteArray := prog_10_method_1_code
def yX9_init : MethodName := ⟨RX9, "<init>", "(Ljava/lang/String;III)V"⟩
def dkwX9_init_0 : List UInt8 := [42, 43, 183, 0, 1, 42, 28, 181, 0, 7, 42, 29, 181, 0, 13, 42, 21, 4, 181, 0, 16, 177]
abbrev dktX9_init_0 : List UInt8 := dkwX9_init_0 ++ []
theorem dksX9_init_0 : cX9_init.data.toList.drop 0 = dktX9_init_0 := by decide +kernel
theorem dX9_init_0 : decode cX9_init 0 = .ok (.aload_n 0, 1) := dk_42 (dk_at dksX9_init_0 0 rfl rfl)
theorem dX9_init_1 : decode cX9_init 1 = .ok (.aload_n 1, 1) := dk_43 (dk_at dksX9_init_0 1 rfl rfl)
theorem dX9_init_2 : decode cX9_init 2 = .ok (.invokespecial 1, 3) := dk_183 0 1 (dk_at dksX9_init_0 2 rfl rfl)
theorem dX9_init_5 : decode cX9_init 5 = .ok (.aload_n 0, 1) := dk_42 (dk_at dksX9_init_0 5 rfl rfl)
theorem dX9_init_6 : decode cX9_init 6 = .ok (.iload_n 2, 1) := dk_28 (dk_at dksX9_init_0 6 rfl rfl)
theorem dX9_init_7 : decode cX9_init 7 = .ok (.putfield 7, 3) := dk_181 0 7 (dk_at dksX9_init_0 7 rfl rfl)
theorem dX9_init_10 : decode cX9_init 10 = .ok (.aload_n 0, 1) := dk_42 (dk_at dksX9_init_0 10 rfl rfl)
theorem dX9_init_11 : decode cX9_init 11 = .ok (.iload_n 3, 1) := dk_29 (dk_at dksX9_init_0 11 rfl rfl)
theorem dX9_init_12 : decode cX9_init 12 = .ok (.putfield 13, 3) := dk_181 0 13 (dk_at dksX9_init_0 12 rfl rfl)
theorem dX9_init_15 : decode cX9_init 15 = .ok (.aload_n 0, 1) := dk_42 (dk_at dksX9_init_0 15 rfl rfl)
theorem dX9_init_16 : decode cX9_init 16 = .ok (.iload 4, 2) := dk_21 4 (dk_at dksX9_init_0 16 rfl rfl)
theorem dX9_init_18 : decode cX9_init 18 = .ok (.putfield 16, 3) := dk_181 0 16 (dk_at dksX9_init_0 18 rfl rfl)
theorem dX9_init_21 : decode cX9_init 21 = .ok (.return_, 1) := dk_177 (dk_at dksX9_init_0 21 rfl rfl)
