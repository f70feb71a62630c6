set_option maxRecDepth 100000
abbrev cX1_init : ByteArray := prog_4_method_1_code
def yX1_init : MethodName := ⟨RX1, "<init>", "()V"⟩
def dkwX1_init_1 : List UInt8 := [187, 0, 15, 89, 7, 183, 0, 17, 181, 0, 24, 42, 187, 0, 15, 89, 5, 183, 0, 17, 181, 0, 27, 177]
abbrev dktX1_init_1 : List UInt8 := dkwX1_init_1 ++ []
def dkwX1_init_0 : List UInt8 := [42, 183, 0, 3, 42, 5, 188, 10, 181, 0, 9, 42, 187, 0, 15, 89, 5, 183, 0, 17, 181, 0, 20, 42]
abbrev dktX1_init_0 : List UInt8 := dkwX1_init_0 ++ dktX1_init_1
theorem dksX1_init_0 : cX1_init.data.toList.drop 0 = dktX1_init_0 := by decide +kernel
theorem dksX1_init_1 : cX1_init.data.toList.drop 24 = dktX1_init_1 := dk_seg dksX1_init_0 24 rfl rfl
theorem dX1_init_0 : decode cX1_init 0 = .ok (.aload_n 0, 1) := dk_42 (dk_at dksX1_init_0 0 rfl rfl)
theorem dX1_init_1 : decode cX1_init 1 = .ok (.invokespecial 3, 3) := dk_183 0 3 (dk_at dksX1_init_0 1 rfl rfl)
theorem dX1_init_4 : decode cX1_init 4 = .ok (.aload_n 0, 1) := dk_42 (dk_at dksX1_init_0 4 rfl rfl)
theorem dX1_init_5 : decode cX1_init 5 = .ok (.iconst 2, 1) := dk_5 (dk_at dksX1_init_0 5 rfl rfl)
theorem dX1_init_6 : decode cX1_init 6 = .ok (.newarray .int, 2) := dk_188_10 (dk_at dksX1_init_0 6 rfl rfl)
theorem dX1_init_8 : decode cX1_init 8 = .ok (.putfield 9, 3) := dk_181 0 9 (dk_at dksX1_init_0 8 rfl rfl)
theorem dX1_init_11 : decode cX1_init 11 = .ok (.aload_n 0, 1) := dk_42 (dk_at dksX1_init_0 11 rfl rfl)
theorem dX1_init_12 : decode cX1_init 12 = .ok (.new 15, 3) := dk_187 0 15 (dk_at dksX1_init_0 12 rfl rfl)
theorem dX1_init_15 : decode cX1_init 15 = .ok (.dup, 1) := dk_89 (dk_at dksX1_init_0 15 rfl rfl)
theorem dX1_init_16 : decode cX1_init 16 = .ok (.iconst 2, 1) := dk_5 (dk_at dksX1_init_0 16 rfl rfl)
theorem dX1_init_17 : decode cX1_init 17 = .ok (.invokespecial 17, 3) := dk_183 0 17 (dk_at dksX1_init_0 17 rfl rfl)
theorem dX1_init_20 : decode cX1_init 20 = .ok (.putfield 20, 3) := dk_181 0 20 (dk_at dksX1_init_0 20 rfl rfl)
theorem dX1_init_23 : decode cX1_init 23 = .ok (.aload_n 0, 1) := dk_42 (dk_at dksX1_init_0 23 rfl rfl)
theorem dX1_init_24 : decode cX1_init 24 = .ok (.new 15, 3) := dk_187 0 15 (dk_at dksX1_init_1 0 rfl rfl)
theorem dX1_init_27 : decode cX1_init 27 = .ok (.dup, 1) := dk_89 (dk_at dksX1_init_1 3 rfl rfl)
theorem dX1_init_28 : decode cX1_init 28 = .ok (.iconst 4, 1) := dk_7 (dk_at dksX1_init_1 4 rfl rfl)
theorem dX1_init_29 : decode cX1_init 29 = .ok (.invokespecial 17, 3) := dk_183 0 17 (dk_at dksX1_init_1 5 rfl rfl)
theorem dX1_init_32 : decode cX1_init 32 = .ok (.putfield 24, 3) := dk_181 0 24 (dk_at dksX1_init_1 8 rfl rfl)
theorem dX1_init_35 : decode cX1_init 35 = .ok (.aload_n 0, 1) := dk_42 (dk_at dksX1_init_1 11 rfl rfl)
theorem dX1_init_36 : decode cX1_init 36 = .ok (.new 15, 3) := dk_187 0 15 (dk_at dksX1_init_1 12 rfl rfl)
theorem dX1_init_39 : decode cX1_init 39 = .ok (.dup, 1) := dk_89 (dk_at dksX1_init_1 15 rfl rfl)
theorem dX1_init_40 : decode cX1_init 40 = .ok (.iconst 2, 1) := dk_5 (dk_at dksX1_init_1 16 rfl rfl)
theorem dX1_init_41 : decode cX1_init 41 = .ok (.invokespecial 17, 3) := dk_183 0 17 (dk_at dksX1_init_1 17 rfl rfl)
theorem dX1_init_44 : decode cX1_init 44 = .ok (.putfield 27, 3) := dk_181 0 27 (dk_at dksX1_init_1 20 rfl rfl)
theorem dX1_init_47 : decode cX1_init 47 = .ok (.return_, 1) := dk_177 (dk_at dksX1_init_1 23 rfl rfl)
abbrev cX1_isNamed : ByteArray := prog_4_method_2_code
def yX1_isNamed : MethodName := ⟨RX1, "isNamed", "(Ljava/lang/String;)Z"⟩
def dkwX1_isNamed_1 : List UInt8 := [42, 180, 0, 27, 43, 184, 0, 30, 2, 159, 0, 7, 4, 167, 0, 4, 3, 172]
abbrev dktX1_isNamed_1 : List UInt8 := dkwX1_isNamed_1 ++ []
def dkwX1_isNamed_0 : List UInt8 := [42, 180, 0, 20, 43, 184, 0, 30, 2, 160, 0, 27, 42, 180, 0, 24, 43, 184, 0, 30, 2, 160, 0, 15]
abbrev dktX1_isNamed_0 : List UInt8 := dkwX1_isNamed_0 ++ dktX1_isNamed_1
theorem dksX1_isNamed_0 : cX1_isNamed.data.toList.drop 0 = dktX1_isNamed_0 := by decide +kernel
theorem dksX1_isNamed_1 : cX1_isNamed.data.toList.drop 24 = dktX1_isNamed_1 := dk_seg dksX1_isNamed_0 24 rfl rfl
theorem dX1_isNamed_0 : decode cX1_isNamed 0 = .ok (.aload_n 0, 1) := dk_42 (dk_at dksX1_isNamed_0 0 rfl rfl)
theorem dX1_isNamed_1 : decode cX1_isNamed 1 = .ok (.getfield 20, 3) := dk_180 0 20 (dk_at dksX1_isNamed_0 1 rfl rfl)
theorem dX1_isNamed_4 : decode cX1_isNamed 4 = .ok (.aload_n 1, 1) := dk_43 (dk_at dksX1_isNamed_0 4 rfl rfl)
theorem dX1_isNamed_5 : decode cX1_isNamed 5 = .ok (.invokestatic 30, 3) := dk_184 0 30 (dk_at dksX1_isNamed_0 5 rfl rfl)
theorem dX1_isNamed_8 : decode cX1_isNamed 8 = .ok (.iconst (-1), 1) := dk_2 (dk_at dksX1_isNamed_0 8 rfl rfl)
theorem dX1_isNamed_9 : decode cX1_isNamed 9 = .ok (.if_icmp .ne 27, 3) := dk_160 0 27 (dk_at dksX1_isNamed_0 9 rfl rfl)
theorem dX1_isNamed_12 : decode cX1_isNamed 12 = .ok (.aload_n 0, 1) := dk_42 (dk_at dksX1_isNamed_0 12 rfl rfl)
theorem dX1_isNamed_13 : decode cX1_isNamed 13 = .ok (.getfield 24, 3) := dk_180 0 24 (dk_at dksX1_isNamed_0 13 rfl rfl)
theorem dX1_isNamed_16 : decode cX1_isNamed 16 = .ok (.aload_n 1, 1) := dk_43 (dk_at dksX1_isNamed_0 16 rfl rfl)
theorem dX1_isNamed_17 : decode cX1_isNamed 17 = .ok (.invokestatic 30, 3) := dk_184 0 30 (dk_at dksX1_isNamed_0 17 rfl rfl)
theorem dX1_isNamed_20 : decode cX1_isNamed 20 = .ok (.iconst (-1), 1) := dk_2 (dk_at dksX1_isNamed_0 20 rfl rfl)
theorem dX1_isNamed_21 : decode cX1_isNamed 21 = .ok (.if_icmp .ne 15, 3) := dk_160 0 15 (dk_at dksX1_isNamed_0 21 rfl rfl)
theorem dX1_isNamed_24 : decode cX1_isNamed 24 = .ok (.aload_n 0, 1) := dk_42 (dk_at dksX1_isNamed_1 0 rfl rfl)
theorem dX1_isNamed_25 : decode cX1_isNamed 25 = .ok (.getfield 27, 3) := dk_180 0 27 (dk_at dksX1_isNamed_1 1 rfl rfl)
theorem dX1_isNamed_28 : decode cX1_isNamed 28 = .ok (.aload_n 1, 1) := dk_43 (dk_at dksX1_isNamed_1 4 rfl rfl)
theorem dX1_isNamed_29 : decode cX1_isNamed 29 = .ok (.invokestatic 30, 3) := dk_184 0 30 (dk_at dksX1_isNamed_1 5 rfl rfl)
theorem dX1_isNamed_32 : decode cX1_isNamed 32 = .ok (.iconst (-1), 1) := dk_2 (dk_at dksX1_isNamed_1 8 rfl rfl)
theorem dX1_isNamed_33 : decode cX1_isNamed 33 = .ok (.if_icmp .eq 7, 3) := dk_159 0 7 (dk_at dksX1_isNamed_1 9 rfl rfl)
theorem dX1_isNamed_36 : decode cX1_isNamed 36 = .ok (.iconst 1, 1) := dk_4 (dk_at dksX1_isNamed_1 12 rfl rfl)
theorem dX1_isNamed_37 : decode cX1_isNamed 37 = .ok (.goto 4, 3) := dk_167 0 4 (dk_at dksX1_isNamed_1 13 rfl rfl)
theorem dX1_isNamed_40 : decode cX1_isNamed 40 = .ok (.iconst 0, 1) := dk_3 (dk_at dksX1_isNamed_1 16 rfl rfl)
theorem dX1_isNamed_41 : decode cX1_isNamed 41 = .ok (.ireturn, 1) := dk_172 (dk_at dksX1_isNamed_1 17 rfl rfl)
abbrev cX1_isFull : ByteArray := prog_4_method_3_code
def yX1_isFull : MethodName := ⟨RX1, "isFull", "(II)Z"⟩
def dkwX1_isFull_3 : List UInt8 := [172]
abbrev dktX1_isFull_3 : List UInt8 := dkwX1_isFull_3 ++ []
def dkwX1_isFull_2 : List UInt8 := [185, 0, 42, 2, 0, 192, 0, 46, 180, 0, 52, 28, 160, 0, 5, 4, 172, 132, 3, 1, 167, 255, 198, 3]
abbrev dktX1_isFull_2 : List UInt8 := dkwX1_isFull_2 ++ dktX1_isFull_3
def dkwX1_isFull_1 : List UInt8 := [185, 0, 42, 2, 0, 192, 0, 46, 180, 0, 48, 27, 160, 0, 25, 42, 180, 0, 24, 29]
abbrev dktX1_isFull_1 : List UInt8 := dkwX1_isFull_1 ++ dktX1_isFull_2
def dkwX1_isFull_0 : List UInt8 := [3, 62, 29, 42, 180, 0, 24, 185, 0, 36, 1, 0, 162, 0, 51, 42, 180, 0, 24, 29]
abbrev dktX1_isFull_0 : List UInt8 := dkwX1_isFull_0 ++ dktX1_isFull_1
theorem dksX1_isFull_0 : cX1_isFull.data.toList.drop 0 = dktX1_isFull_0 := by decide +kernel
theorem dksX1_isFull_1 : cX1_isFull.data.toList.drop 20 = dktX1_isFull_1 := dk_seg dksX1_isFull_0 20 rfl rfl
theorem dksX1_isFull_2 : cX1_isFull.data.toList.drop 40 = dktX1_isFull_2 := dk_seg dksX1_isFull_1 20 rfl rfl
theorem dksX1_isFull_3 : cX1_isFull.data.toList.drop 64 = dktX1_isFull_3 := dk_seg dksX1_isFull_2 24 rfl rfl
theorem dX1_isFull_0 : decode cX1_isFull 0 = .ok (.iconst 0, 1) := dk_3 (dk_at dksX1_isFull_0 0 rfl rfl)
theorem dX1_isFull_1 : decode cX1_isFull 1 = .ok (.istore_n 3, 1) := dk_62 (dk_at dksX1_isFull_0 1 rfl rfl)
theorem dX1_isFull_2 : decode cX1_isFull 2 = .ok (.iload_n 3, 1) := dk_29 (dk_at dksX1_isFull_0 2 rfl rfl)
theorem dX1_isFull_3 : decode cX1_isFull 3 = .ok (.aload_n 0, 1) := dk_42 (dk_at dksX1_isFull_0 3 rfl rfl)
theorem dX1_isFull_4 : decode cX1_isFull 4 = .ok (.getfield 24, 3) := dk_180 0 24 (dk_at dksX1_isFull_0 4 rfl rfl)
theorem dX1_isFull_7 : decode cX1_isFull 7 = .ok (.invokeinterface 36 1, 5) := by decide +kernel
theorem dX1_isFull_12 : decode cX1_isFull 12 = .ok (.if_icmp .ge 51, 3) := dk_162 0 51 (dk_at dksX1_isFull_0 12 rfl rfl)
theorem dX1_isFull_15 : decode cX1_isFull 15 = .ok (.aload_n 0, 1) := dk_42 (dk_at dksX1_isFull_0 15 rfl rfl)
theorem dX1_isFull_16 : decode cX1_isFull 16 = .ok (.getfield 24, 3) := dk_180 0 24 (dk_at dksX1_isFull_0 16 rfl rfl)
theorem dX1_isFull_19 : decode cX1_isFull 19 = .ok (.iload_n 3, 1) := dk_29 (dk_at dksX1_isFull_0 19 rfl rfl)
theorem dX1_isFull_20 : decode cX1_isFull 20 = .ok (.invokeinterface 42 2, 5) := by decide +kernel
theorem dX1_isFull_25 : decode cX1_isFull 25 = .ok (.checkcast 46, 3) := dk_192 0 46 (dk_at dksX1_isFull_1 5 rfl rfl)
theorem dX1_isFull_28 : decode cX1_isFull 28 = .ok (.getfield 48, 3) := dk_180 0 48 (dk_at dksX1_isFull_1 8 rfl rfl)
theorem dX1_isFull_31 : decode cX1_isFull 31 = .ok (.iload_n 1, 1) := dk_27 (dk_at dksX1_isFull_1 11 rfl rfl)
theorem dX1_isFull_32 : decode cX1_isFull 32 = .ok (.if_icmp .ne 25, 3) := dk_160 0 25 (dk_at dksX1_isFull_1 12 rfl rfl)
theorem dX1_isFull_35 : decode cX1_isFull 35 = .ok (.aload_n 0, 1) := dk_42 (dk_at dksX1_isFull_1 15 rfl rfl)
theorem dX1_isFull_36 : decode cX1_isFull 36 = .ok (.getfield 24, 3) := dk_180 0 24 (dk_at dksX1_isFull_1 16 rfl rfl)
theorem dX1_isFull_39 : decode cX1_isFull 39 = .ok (.iload_n 3, 1) := dk_29 (dk_at dksX1_isFull_1 19 rfl rfl)
theorem dX1_isFull_40 : decode cX1_isFull 40 = .ok (.invokeinterface 42 2, 5) := by decide +kernel
theorem dX1_isFull_45 : decode cX1_isFull 45 = .ok (.checkcast 46, 3) := dk_192 0 46 (dk_at dksX1_isFull_2 5 rfl rfl)
theorem dX1_isFull_48 : decode cX1_isFull 48 = .ok (.getfield 52, 3) := dk_180 0 52 (dk_at dksX1_isFull_2 8 rfl rfl)
theorem dX1_isFull_51 : decode cX1_isFull 51 = .ok (.iload_n 2, 1) := dk_28 (dk_at dksX1_isFull_2 11 rfl rfl)
theorem dX1_isFull_52 : decode cX1_isFull 52 = .ok (.if_icmp .ne 5, 3) := dk_160 0 5 (dk_at dksX1_isFull_2 12 rfl rfl)
theorem dX1_isFull_55 : decode cX1_isFull 55 = .ok (.iconst 1, 1) := dk_4 (dk_at dksX1_isFull_2 15 rfl rfl)
theorem dX1_isFull_56 : decode cX1_isFull 56 = .ok (.ireturn, 1) := dk_172 (dk_at dksX1_isFull_2 16 rfl rfl)
theorem dX1_isFull_57 : decode cX1_isFull 57 = .ok (.iinc 3 1, 3) := dk_132 3 1 (dk_at dksX1_isFull_2 17 rfl rfl)
theorem dX1_isFull_60 : decode cX1_isFull 60 = .ok (.goto (-58), 3) := dk_167 255 198 (dk_at dksX1_isFull_2 20 rfl rfl)
theorem dX1_isFull_63 : decode cX1_isFull 63 = .ok (.iconst 0, 1) := dk_3 (dk_at dksX1_isFull_2 23 rfl rfl)
theorem dX1_isFull_64 : decode cX1_isFull 64 = .ok (.ireturn, 1) := dk_172 (dk_at dksX1_isFull_3 0 rfl rfl)
abbrev cX10_init : ByteArray := prog_12_method_1_code
def yX10_init : MethodName := ⟨RX10, "<init>", "(Ljava/lang/String;IIII)V"⟩
def dkwX10_init_1 : List UInt8 := [181, 0, 19, 177]
abbrev dktX10_init_1 : List UInt8 := dkwX10_init_1 ++ []
def dkwX10_init_0 : List UInt8 := [42, 43, 183, 0, 1, 42, 28, 181, 0, 7, 42, 29, 181, 0, 13, 42, 21, 4, 181, 0, 16, 42, 21, 5]
abbrev dktX10_init_0 : List UInt8 := dkwX10_init_0 ++ dktX10_init_1
theorem dksX10_init_0 : cX10_init.data.toList.drop 0 = dktX10_init_0 := by decide +kernel
theorem dksX10_init_1 : cX10_init.data.toList.drop 24 = dktX10_init_1 := dk_seg dksX10_init_0 24 rfl rfl
theorem dX10_init_0 : decode cX10_init 0 = .ok (.aload_n 0, 1) := dk_42 (dk_at dksX10_init_0 0 rfl rfl)
theorem dX10_init_1 : decode cX10_init 1 = .ok (.aload_n 1, 1) := dk_43 (dk_at dksX10_init_0 1 rfl rfl)
theorem dX10_init_2 : decode cX10_init 2 = .ok (.invokespecial 1, 3) := dk_183 0 1 (dk_at dksX10_init_0 2 rfl rfl)
theorem dX10_init_5 : decode cX10_init 5 = .ok (.aload_n 0, 1) := dk_42 (dk_at dksX10_init_0 5 rfl rfl)
theorem dX10_init_6 : decode cX10_init 6 = .ok (.iload_n 2, 1) := dk_28 (dk_at dksX10_init_0 6 rfl rfl)
theorem dX10_init_7 : decode cX10_init 7 = .ok (.putfield 7, 3) := dk_181 0 7 (dk_at dksX10_init_0 7 rfl rfl)
theorem dX10_init_10 : decode cX10_init 10 = .ok (.aload_n 0, 1) := dk_42 (dk_at dksX10_init_0 10 rfl rfl)
theorem dX10_init_11 : decode cX10_init 11 = .ok (.iload_n 3, 1) := dk_29 (dk_at dksX10_init_0 11 rfl rfl)
theorem dX10_init_12 : decode cX10_init 12 = .ok (.putfield 13, 3) := dk_181 0 13 (dk_at dksX10_init_0 12 rfl rfl)
theorem dX10_init_15 : decode cX10_init 15 = .ok (.aload_n 0, 1) := dk_42 (dk_at dksX10_init_0 15 rfl rfl)
theorem dX10_init_16 : decode cX10_init 16 = .ok (.iload 4, 2) := dk_21 4 (dk_at dksX10_init_0 16 rfl rfl)
theorem dX10_init_18 : decode cX10_init 18 = .ok (.putfield 16, 3) := dk_181 0 16 (dk_at dksX10_init_0 18 rfl rfl)
theorem dX10_init_21 : decode cX10_init 21 = .ok (.aload_n 0, 1) := dk_42 (dk_at dksX10_init_0 21 rfl rfl)
theorem dX10_init_22 : decode cX10_init 22 = .ok (.iload 5, 2) := dk_21 5 (dk_at dksX10_init_0 22 rfl rfl)
theorem dX10_init_24 : decode cX10_init 24 = .ok (.putfield 19, 3) := dk_181 0 19 (dk_at dksX10_init_1 0 rfl rfl)
theorem dX10_init_27 : decode cX10_init 27 = .ok (.return_, 1) := dk_177 (dk_at dksX10_init_1 3 rfl rfl)
abbrev cX11_init : ByteArray := prog_8_method_1_code
def yX11_init : MethodName := ⟨RX11, "<init>", "(Ljava/lang/String;III)V"⟩
def dkwX11_init_0 : List UInt8 := [42, 43, 183, 0, 1, 42, 28, 181, 0, 7, 42, 29, 181, 0, 13, 42, 21, 4, 181, 0, 16, 177]
abbrev dktX11_init_0 : List UInt8 := dkwX11_init_0 ++ []
theorem dksX11_init_0 : cX11_init.data.toList.drop 0 = dktX11_init_0 := by decide +kernel
theorem dX11_init_0 : decode cX11_init 0 = .ok (.aload_n 0, 1) := dk_42 (dk_at dksX11_init_0 0 rfl rfl)
theorem dX11_init_1 : decode cX11_init 1 = .ok (.aload_n 1, 1) := dk_43 (dk_at dksX11_init_0 1 rfl rfl)
theorem dX11_init_2 : decode cX11_init 2 = .ok (.invokespecial 1, 3) := dk_183 0 1 (dk_at dksX11_init_0 2 rfl rfl)
theorem dX11_init_5 : decode cX11_init 5 = .ok (.aload_n 0, 1) := dk_42 (dk_at dksX11_init_0 5 rfl rfl)
theorem dX11_init_6 : decode cX11_init 6 = .ok (.iload_n 2, 1) := dk_28 (dk_at dksX11_init_0 6 rfl rfl)
theorem dX11_init_7 : decode cX11_init 7 = .ok (.putfield 7, 3) := dk_181 0 7 (dk_at dksX11_init_0 7 rfl rfl)
theorem dX11_init_10 : decode cX11_init 10 = .ok (.aload_n 0, 1) := dk_42 (dk_at dksX11_init_0 10 rfl rfl)
theorem dX11_init_11 : decode cX11_init 11 = .ok (.iload_n 3, 1) := dk_29 (dk_at dksX11_init_0 11 rfl rfl)
theorem dX11_init_12 : decode cX11_init 12 = .ok (.putfield 13, 3) := dk_181 0 13 (dk_at dksX11_init_0 12 rfl rfl)
theorem dX11_init_15 : decode cX11_init 15 = .ok (.aload_n 0, 1) := dk_42 (dk_at dksX11_init_0 15 rfl rfl)
theorem dX11_init_16 : decode cX11_init 16 = .ok (.iload 4, 2) := dk_21 4 (dk_at dksX11_init_0 16 rfl rfl)
theorem dX11_init_18 : decode cX11_init 18 = .ok (.putfield 16, 3) := dk_181 0 16 (dk_at dksX11_init_0 18 rfl rfl)
theorem dX11_init_21 : decode cX11_init 21 = .ok (.return_, 1) := dk_177 (dk_at dksX11_init_0 21 rfl rfl)
abbrev cX12_init : ByteArray := prog_23_method_1_code
def yX12_init : MethodName := ⟨RX12, "<init>", "()V"⟩
theorem dX12_init_0 : decode cX12_init 0 = .ok (.aload_n 0, 1) := by decide +kernel
theorem dX12_init_1 : decode cX12_init 1 = .ok (.invokespecial 1, 3) := by decide +kernel
theorem dX12_init_4 : decode cX12_init 4 = .ok (.return_, 1) := by decide +kernel
abbrev cX13_init : ByteArray := prog_5_method_1_code
def yX13_init : MethodName := ⟨RX13, "<init>", "()V"⟩
def dkwX13_init_1 : List UInt8 := [181, 0, 21, 177]
abbrev dktX13_init_1 : List UInt8 := dkwX13_init_1 ++ []
def dkwX13_init_0 : List UInt8 := [42, 183, 0, 1, 42, 187, 0, 7, 89, 5, 183, 0, 9, 181, 0, 12, 42, 187, 0, 18, 89, 183, 0, 20]
abbrev dktX13_init_0 : List UInt8 := dkwX13_init_0 ++ dktX13_init_1
theorem dksX13_init_0 : cX13_init.data.toList.drop 0 = dktX13_init_0 := by decide +kernel
theorem dksX13_init_1 : cX13_init.data.toList.drop 24 = dktX13_init_1 := dk_seg dksX13_init_0 24 rfl rfl
theorem dX13_init_0 : decode cX13_init 0 = .ok (.aload_n 0, 1) := dk_42 (dk_at dksX13_init_0 0 rfl rfl)
theorem dX13_init_1 : decode cX13_init 1 = .ok (.invokespecial 1, 3) := dk_183 0 1 (dk_at dksX13_init_0 1 rfl rfl)
theorem dX13_init_4 : decode cX13_init 4 = .ok (.aload_n 0, 1) := dk_42 (dk_at dksX13_init_0 4 rfl rfl)
theorem dX13_init_5 : decode cX13_init 5 = .ok (.new 7, 3) := dk_187 0 7 (dk_at dksX13_init_0 5 rfl rfl)
theorem dX13_init_8 : decode cX13_init 8 = .ok (.dup, 1) := dk_89 (dk_at dksX13_init_0 8 rfl rfl)
theorem dX13_init_9 : decode cX13_init 9 = .ok (.iconst 2, 1) := dk_5 (dk_at dksX13_init_0 9 rfl rfl)
theorem dX13_init_10 : decode cX13_init 10 = .ok (.invokespecial 9, 3) := dk_183 0 9 (dk_at dksX13_init_0 10 rfl rfl)
theorem dX13_init_13 : decode cX13_init 13 = .ok (.putfield 12, 3) := dk_181 0 12 (dk_at dksX13_init_0 13 rfl rfl)
theorem dX13_init_16 : decode cX13_init 16 = .ok (.aload_n 0, 1) := dk_42 (dk_at dksX13_init_0 16 rfl rfl)
theorem dX13_init_17 : decode cX13_init 17 = .ok (.new 18, 3) := dk_187 0 18 (dk_at dksX13_init_0 17 rfl rfl)
theorem dX13_init_20 : decode cX13_init 20 = .ok (.dup, 1) := dk_89 (dk_at dksX13_init_0 20 rfl rfl)
theorem dX13_init_21 : decode cX13_init 21 = .ok (.invokespecial 20, 3) := dk_183 0 20 (dk_at dksX13_init_0 21 rfl rfl)
theorem dX13_init_24 : decode cX13_init 24 = .ok (.putfield 21, 3) := dk_181 0 21 (dk_at dksX13_init_1 0 rfl rfl)
theorem dX13_init_27 : decode cX13_init 27 = .ok (.return_, 1) := dk_177 (dk_at dksX13_init_1 3 rfl rfl)
abbrev cX13_add : ByteArray := prog_5_method_2_code
def yX13_add : MethodName := ⟨RX13, "add", "(CLGardenChess$Value;)V"⟩
def dkwX13_add_0 : List UInt8 := [42, 180, 0, 21, 27, 182, 0, 25, 87, 42, 180, 0, 12, 44, 185, 0, 29, 2, 0, 87, 177]
abbrev dktX13_add_0 : List UInt8 := dkwX13_add_0 ++ []
theorem dksX13_add_0 : cX13_add.data.toList.drop 0 = dktX13_add_0 := by decide +kernel
theorem dX13_add_0 : decode cX13_add 0 = .ok (.aload_n 0, 1) := dk_42 (dk_at dksX13_add_0 0 rfl rfl)
theorem dX13_add_1 : decode cX13_add 1 = .ok (.getfield 21, 3) := dk_180 0 21 (dk_at dksX13_add_0 1 rfl rfl)
theorem dX13_add_4 : decode cX13_add 4 = .ok (.iload_n 1, 1) := dk_27 (dk_at dksX13_add_0 4 rfl rfl)
theorem dX13_add_5 : decode cX13_add 5 = .ok (.invokevirtual 25, 3) := dk_182 0 25 (dk_at dksX13_add_0 5 rfl rfl)
theorem dX13_add_8 : decode cX13_add 8 = .ok (.pop, 1) := dk_87 (dk_at dksX13_add_0 8 rfl rfl)
theorem dX13_add_9 : decode cX13_add 9 = .ok (.aload_n 0, 1) := dk_42 (dk_at dksX13_add_0 9 rfl rfl)
theorem dX13_add_10 : decode cX13_add 10 = .ok (.getfield 12, 3) := dk_180 0 12 (dk_at dksX13_add_0 10 rfl rfl)
theorem dX13_add_13 : decode cX13_add 13 = .ok (.aload_n 2, 1) := dk_44 (dk_at dksX13_add_0 13 rfl rfl)
theorem dX13_add_14 : decode cX13_add 14 = .ok (.invokeinterface 29 2, 5) := by decide +kernel
theorem dX13_add_19 : decode cX13_add 19 = .ok (.pop, 1) := dk_87 (dk_at dksX13_add_0 19 rfl rfl)
theorem dX13_add_20 : decode cX13_add 20 = .ok (.return_, 1) := dk_177 (dk_at dksX13_add_0 20 rfl rfl)
abbrev cX13_at : ByteArray := prog_5_method_3_code
def yX13_at : MethodName := ⟨RX13, "at", "(LGardenChess$Moment;)J"⟩
def dkwX13_at_3 : List UInt8 := [132, 4, 1, 167, 255, 204, 32, 173]
abbrev dktX13_at_3 : List UInt8 := dkwX13_at_3 ++ []
def dkwX13_at_2 : List UInt8 := [180, 0, 12, 21, 4, 185, 0, 35, 2, 0, 192, 0, 2, 43, 182, 0, 39, 184, 0, 51, 184, 0, 55, 65]
abbrev dktX13_at_2 : List UInt8 := dkwX13_at_2 ++ dktX13_at_3
def dkwX13_at_1 : List UInt8 := [180, 0, 12, 185, 0, 43, 1, 0, 162, 0, 44, 42, 180, 0, 21, 21, 4, 182, 0, 47, 32, 42]
abbrev dktX13_at_1 : List UInt8 := dkwX13_at_1 ++ dktX13_at_2
def dkwX13_at_0 : List UInt8 := [42, 180, 0, 12, 3, 185, 0, 35, 2, 0, 192, 0, 2, 43, 182, 0, 39, 65, 4, 54, 4, 21, 4, 42]
abbrev dktX13_at_0 : List UInt8 := dkwX13_at_0 ++ dktX13_at_1
theorem dksX13_at_0 : cX13_at.data.toList.drop 0 = dktX13_at_0 := by decide +kernel
theorem dksX13_at_1 : cX13_at.data.toList.drop 24 = dktX13_at_1 := dk_seg dksX13_at_0 24 rfl rfl
theorem dksX13_at_2 : cX13_at.data.toList.drop 46 = dktX13_at_2 := dk_seg dksX13_at_1 22 rfl rfl
theorem dksX13_at_3 : cX13_at.data.toList.drop 70 = dktX13_at_3 := dk_seg dksX13_at_2 24 rfl rfl
theorem dX13_at_0 : decode cX13_at 0 = .ok (.aload_n 0, 1) := dk_42 (dk_at dksX13_at_0 0 rfl rfl)
theorem dX13_at_1 : decode cX13_at 1 = .ok (.getfield 12, 3) := dk_180 0 12 (dk_at dksX13_at_0 1 rfl rfl)
theorem dX13_at_4 : decode cX13_at 4 = .ok (.iconst 0, 1) := dk_3 (dk_at dksX13_at_0 4 rfl rfl)
theorem dX13_at_5 : decode cX13_at 5 = .ok (.invokeinterface 35 2, 5) := by decide +kernel
theorem dX13_at_10 : decode cX13_at 10 = .ok (.checkcast 2, 3) := dk_192 0 2 (dk_at dksX13_at_0 10 rfl rfl)
theorem dX13_at_13 : decode cX13_at 13 = .ok (.aload_n 1, 1) := dk_43 (dk_at dksX13_at_0 13 rfl rfl)
theorem dX13_at_14 : decode cX13_at 14 = .ok (.invokevirtual 39, 3) := dk_182 0 39 (dk_at dksX13_at_0 14 rfl rfl)
theorem dX13_at_17 : decode cX13_at 17 = .ok (.lstore_n 2, 1) := dk_65 (dk_at dksX13_at_0 17 rfl rfl)
theorem dX13_at_18 : decode cX13_at 18 = .ok (.iconst 1, 1) := dk_4 (dk_at dksX13_at_0 18 rfl rfl)
theorem dX13_at_19 : decode cX13_at 19 = .ok (.istore 4, 2) := dk_54 4 (dk_at dksX13_at_0 19 rfl rfl)
theorem dX13_at_21 : decode cX13_at 21 = .ok (.iload 4, 2) := dk_21 4 (dk_at dksX13_at_0 21 rfl rfl)
theorem dX13_at_23 : decode cX13_at 23 = .ok (.aload_n 0, 1) := dk_42 (dk_at dksX13_at_0 23 rfl rfl)
theorem dX13_at_24 : decode cX13_at 24 = .ok (.getfield 12, 3) := dk_180 0 12 (dk_at dksX13_at_1 0 rfl rfl)
theorem dX13_at_27 : decode cX13_at 27 = .ok (.invokeinterface 43 1, 5) := by decide +kernel
theorem dX13_at_32 : decode cX13_at 32 = .ok (.if_icmp .ge 44, 3) := dk_162 0 44 (dk_at dksX13_at_1 8 rfl rfl)
theorem dX13_at_35 : decode cX13_at 35 = .ok (.aload_n 0, 1) := dk_42 (dk_at dksX13_at_1 11 rfl rfl)
theorem dX13_at_36 : decode cX13_at 36 = .ok (.getfield 21, 3) := dk_180 0 21 (dk_at dksX13_at_1 12 rfl rfl)
theorem dX13_at_39 : decode cX13_at 39 = .ok (.iload 4, 2) := dk_21 4 (dk_at dksX13_at_1 15 rfl rfl)
theorem dX13_at_41 : decode cX13_at 41 = .ok (.invokevirtual 47, 3) := dk_182 0 47 (dk_at dksX13_at_1 17 rfl rfl)
theorem dX13_at_44 : decode cX13_at 44 = .ok (.lload_n 2, 1) := dk_32 (dk_at dksX13_at_1 20 rfl rfl)
theorem dX13_at_45 : decode cX13_at 45 = .ok (.aload_n 0, 1) := dk_42 (dk_at dksX13_at_1 21 rfl rfl)
theorem dX13_at_46 : decode cX13_at 46 = .ok (.getfield 12, 3) := dk_180 0 12 (dk_at dksX13_at_2 0 rfl rfl)
theorem dX13_at_49 : decode cX13_at 49 = .ok (.iload 4, 2) := dk_21 4 (dk_at dksX13_at_2 3 rfl rfl)
theorem dX13_at_51 : decode cX13_at 51 = .ok (.invokeinterface 35 2, 5) := by decide +kernel
theorem dX13_at_56 : decode cX13_at 56 = .ok (.checkcast 2, 3) := dk_192 0 2 (dk_at dksX13_at_2 10 rfl rfl)
theorem dX13_at_59 : decode cX13_at 59 = .ok (.aload_n 1, 1) := dk_43 (dk_at dksX13_at_2 13 rfl rfl)
theorem dX13_at_60 : decode cX13_at 60 = .ok (.invokevirtual 39, 3) := dk_182 0 39 (dk_at dksX13_at_2 14 rfl rfl)
theorem dX13_at_63 : decode cX13_at 63 = .ok (.invokestatic 51, 3) := dk_184 0 51 (dk_at dksX13_at_2 17 rfl rfl)
theorem dX13_at_66 : decode cX13_at 66 = .ok (.invokestatic 55, 3) := dk_184 0 55 (dk_at dksX13_at_2 20 rfl rfl)
theorem dX13_at_69 : decode cX13_at 69 = .ok (.lstore_n 2, 1) := dk_65 (dk_at dksX13_at_2 23 rfl rfl)
theorem dX13_at_70 : decode cX13_at 70 = .ok (.iinc 4 1, 3) := dk_132 4 1 (dk_at dksX13_at_3 0 rfl rfl)
theorem dX13_at_73 : decode cX13_at 73 = .ok (.goto (-52), 3) := dk_167 255 204 (dk_at dksX13_at_3 3 rfl rfl)
theorem dX13_at_76 : decode cX13_at 76 = .ok (.lload_n 2, 1) := dk_32 (dk_at dksX13_at_3 6 rfl rfl)
theorem dX13_at_77 : decode cX13_at 77 = .ok (.lreturn, 1) := dk_173 (dk_at dksX13_at_3 7 rfl rfl)
abbrev cX13_two : ByteArray := prog_5_method_4_code
def yX13_two : MethodName := ⟨RX13, "two", "(CJJ)J"⟩
def dkwX13_two_3 : List UInt8 := [184, 0, 61, 173]
abbrev dktX13_two_3 : List UInt8 := dkwX13_two_3 ++ []
def dkwX13_two_2 : List UInt8 := [31, 33, 97, 173, 31, 33, 101, 173, 31, 33, 105, 173, 33, 9, 148, 154, 0, 7, 9, 167, 0, 8, 31, 33]
abbrev dktX13_two_2 : List UInt8 := dkwX13_two_2 ++ dktX13_two_3
def dkwX13_two_1 : List UInt8 := [170, 0, 0, 0, 0, 0, 43, 0, 0, 0, 42, 0, 0, 0, 45, 0, 0, 0, 39, 0, 0, 0, 31, 0, 0, 0, 43, 0, 0, 0, 35]
abbrev dktX13_two_1 : List UInt8 := dkwX13_two_1 ++ dktX13_two_2
def dkwX13_two_0 : List UInt8 := [26]
abbrev dktX13_two_0 : List UInt8 := dkwX13_two_0 ++ dktX13_two_1
theorem dksX13_two_0 : cX13_two.data.toList.drop 0 = dktX13_two_0 := by decide +kernel
theorem dksX13_two_1 : cX13_two.data.toList.drop 1 = dktX13_two_1 := dk_seg dksX13_two_0 1 rfl rfl
theorem dksX13_two_2 : cX13_two.data.toList.drop 32 = dktX13_two_2 := dk_seg dksX13_two_1 31 rfl rfl
theorem dksX13_two_3 : cX13_two.data.toList.drop 56 = dktX13_two_3 := dk_seg dksX13_two_2 24 rfl rfl
theorem dX13_two_0 : decode cX13_two 0 = .ok (.iload_n 0, 1) := dk_26 (dk_at dksX13_two_0 0 rfl rfl)
theorem dX13_two_1 : decode cX13_two 1 = .ok (.tableswitch 43 42 45 #[39, 31, 43, 35], 31) := by decide +kernel
theorem dX13_two_32 : decode cX13_two 32 = .ok (.lload_n 1, 1) := dk_31 (dk_at dksX13_two_2 0 rfl rfl)
theorem dX13_two_33 : decode cX13_two 33 = .ok (.lload_n 3, 1) := dk_33 (dk_at dksX13_two_2 1 rfl rfl)
theorem dX13_two_34 : decode cX13_two 34 = .ok (.ladd, 1) := dk_97 (dk_at dksX13_two_2 2 rfl rfl)
theorem dX13_two_35 : decode cX13_two 35 = .ok (.lreturn, 1) := dk_173 (dk_at dksX13_two_2 3 rfl rfl)
theorem dX13_two_36 : decode cX13_two 36 = .ok (.lload_n 1, 1) := dk_31 (dk_at dksX13_two_2 4 rfl rfl)
theorem dX13_two_37 : decode cX13_two 37 = .ok (.lload_n 3, 1) := dk_33 (dk_at dksX13_two_2 5 rfl rfl)
theorem dX13_two_38 : decode cX13_two 38 = .ok (.lsub, 1) := dk_101 (dk_at dksX13_two_2 6 rfl rfl)
theorem dX13_two_39 : decode cX13_two 39 = .ok (.lreturn, 1) := dk_173 (dk_at dksX13_two_2 7 rfl rfl)
theorem dX13_two_40 : decode cX13_two 40 = .ok (.lload_n 1, 1) := dk_31 (dk_at dksX13_two_2 8 rfl rfl)
theorem dX13_two_41 : decode cX13_two 41 = .ok (.lload_n 3, 1) := dk_33 (dk_at dksX13_two_2 9 rfl rfl)
theorem dX13_two_42 : decode cX13_two 42 = .ok (.lmul, 1) := dk_105 (dk_at dksX13_two_2 10 rfl rfl)
theorem dX13_two_43 : decode cX13_two 43 = .ok (.lreturn, 1) := dk_173 (dk_at dksX13_two_2 11 rfl rfl)
theorem dX13_two_44 : decode cX13_two 44 = .ok (.lload_n 3, 1) := dk_33 (dk_at dksX13_two_2 12 rfl rfl)
theorem dX13_two_45 : decode cX13_two 45 = .ok (.lconst 0, 1) := dk_9 (dk_at dksX13_two_2 13 rfl rfl)
theorem dX13_two_46 : decode cX13_two 46 = .ok (.lcmp, 1) := dk_148 (dk_at dksX13_two_2 14 rfl rfl)
theorem dX13_two_47 : decode cX13_two 47 = .ok (.ifCond .ne 7, 3) := dk_154 0 7 (dk_at dksX13_two_2 15 rfl rfl)
theorem dX13_two_50 : decode cX13_two 50 = .ok (.lconst 0, 1) := dk_9 (dk_at dksX13_two_2 18 rfl rfl)
theorem dX13_two_51 : decode cX13_two 51 = .ok (.goto 8, 3) := dk_167 0 8 (dk_at dksX13_two_2 19 rfl rfl)
theorem dX13_two_54 : decode cX13_two 54 = .ok (.lload_n 1, 1) := dk_31 (dk_at dksX13_two_2 22 rfl rfl)
theorem dX13_two_55 : decode cX13_two 55 = .ok (.lload_n 3, 1) := dk_33 (dk_at dksX13_two_2 23 rfl rfl)
theorem dX13_two_56 : decode cX13_two 56 = .ok (.invokestatic 61, 3) := dk_184 0 61 (dk_at dksX13_two_3 0 rfl rfl)
theorem dX13_two_59 : decode cX13_two 59 = .ok (.lreturn, 1) := dk_173 (dk_at dksX13_two_3 3 rfl rfl)
abbrev cX14_init : ByteArray := prog_17_method_1_code
def yX14_init : MethodName := ⟨RX14, "<init>", "(ZLGardenChess$Value;LGardenChess$Value;)V"⟩
def dkwX14_init_0 : List UInt8 := [42, 183, 0, 1, 42, 27, 181, 0, 7, 42, 44, 181, 0, 13, 42, 45, 181, 0, 17, 177]
abbrev dktX14_init_0 : List UInt8 := dkwX14_init_0 ++ []
theorem dksX14_init_0 : cX14_init.data.toList.drop 0 = dktX14_init_0 := by decide +kernel
theorem dX14_init_0 : decode cX14_init 0 = .ok (.aload_n 0, 1) := dk_42 (dk_at dksX14_init_0 0 rfl rfl)
theorem dX14_init_1 : decode cX14_init 1 = .ok (.invokespecial 1, 3) := dk_183 0 1 (dk_at dksX14_init_0 1 rfl rfl)
theorem dX14_init_4 : decode cX14_init 4 = .ok (.aload_n 0, 1) := dk_42 (dk_at dksX14_init_0 4 rfl rfl)
theorem dX14_init_5 : decode cX14_init 5 = .ok (.iload_n 1, 1) := dk_27 (dk_at dksX14_init_0 5 rfl rfl)
theorem dX14_init_6 : decode cX14_init 6 = .ok (.putfield 7, 3) := dk_181 0 7 (dk_at dksX14_init_0 6 rfl rfl)
theorem dX14_init_9 : decode cX14_init 9 = .ok (.aload_n 0, 1) := dk_42 (dk_at dksX14_init_0 9 rfl rfl)
theorem dX14_init_10 : decode cX14_init 10 = .ok (.aload_n 2, 1) := dk_44 (dk_at dksX14_init_0 10 rfl rfl)
theorem dX14_init_11 : decode cX14_init 11 = .ok (.putfield 13, 3) := dk_181 0 13 (dk_at dksX14_init_0 11 rfl rfl)
theorem dX14_init_14 : decode cX14_init 14 = .ok (.aload_n 0, 1) := dk_42 (dk_at dksX14_init_0 14 rfl rfl)
theorem dX14_init_15 : decode cX14_init 15 = .ok (.aload_n 3, 1) := dk_45 (dk_at dksX14_init_0 15 rfl rfl)
theorem dX14_init_16 : decode cX14_init 16 = .ok (.putfield 17, 3) := dk_181 0 17 (dk_at dksX14_init_0 16 rfl rfl)
theorem dX14_init_19 : decode cX14_init 19 = .ok (.return_, 1) := dk_177 (dk_at dksX14_init_0 19 rfl rfl)
abbrev cX14_at : ByteArray := prog_17_method_2_code
def yX14_at : MethodName := ⟨RX14, "at", "(LGardenChess$Moment;)J"⟩
def dkwX14_at_1 : List UInt8 := [22, 4, 148, 158, 0, 7, 4, 167, 0, 4, 3, 160, 0, 7, 32, 167, 0, 5, 22, 4, 173]
abbrev dktX14_at_1 : List UInt8 := dkwX14_at_1 ++ []
def dkwX14_at_0 : List UInt8 := [42, 180, 0, 13, 43, 182, 0, 20, 65, 42, 180, 0, 17, 43, 182, 0, 20, 55, 4, 42, 180, 0, 7, 32]
abbrev dktX14_at_0 : List UInt8 := dkwX14_at_0 ++ dktX14_at_1
theorem dksX14_at_0 : cX14_at.data.toList.drop 0 = dktX14_at_0 := by decide +kernel
theorem dksX14_at_1 : cX14_at.data.toList.drop 24 = dktX14_at_1 := dk_seg dksX14_at_0 24 rfl rfl
theorem dX14_at_0 : decode cX14_at 0 = .ok (.aload_n 0, 1) := dk_42 (dk_at dksX14_at_0 0 rfl rfl)
theorem dX14_at_1 : decode cX14_at 1 = .ok (.getfield 13, 3) := dk_180 0 13 (dk_at dksX14_at_0 1 rfl rfl)
theorem dX14_at_4 : decode cX14_at 4 = .ok (.aload_n 1, 1) := dk_43 (dk_at dksX14_at_0 4 rfl rfl)
theorem dX14_at_5 : decode cX14_at 5 = .ok (.invokevirtual 20, 3) := dk_182 0 20 (dk_at dksX14_at_0 5 rfl rfl)
theorem dX14_at_8 : decode cX14_at 8 = .ok (.lstore_n 2, 1) := dk_65 (dk_at dksX14_at_0 8 rfl rfl)
theorem dX14_at_9 : decode cX14_at 9 = .ok (.aload_n 0, 1) := dk_42 (dk_at dksX14_at_0 9 rfl rfl)
theorem dX14_at_10 : decode cX14_at 10 = .ok (.getfield 17, 3) := dk_180 0 17 (dk_at dksX14_at_0 10 rfl rfl)
theorem dX14_at_13 : decode cX14_at 13 = .ok (.aload_n 1, 1) := dk_43 (dk_at dksX14_at_0 13 rfl rfl)
theorem dX14_at_14 : decode cX14_at 14 = .ok (.invokevirtual 20, 3) := dk_182 0 20 (dk_at dksX14_at_0 14 rfl rfl)
theorem dX14_at_17 : decode cX14_at 17 = .ok (.lstore 4, 2) := dk_55 4 (dk_at dksX14_at_0 17 rfl rfl)
theorem dX14_at_19 : decode cX14_at 19 = .ok (.aload_n 0, 1) := dk_42 (dk_at dksX14_at_0 19 rfl rfl)
theorem dX14_at_20 : decode cX14_at 20 = .ok (.getfield 7, 3) := dk_180 0 7 (dk_at dksX14_at_0 20 rfl rfl)
theorem dX14_at_23 : decode cX14_at 23 = .ok (.lload_n 2, 1) := dk_32 (dk_at dksX14_at_0 23 rfl rfl)
theorem dX14_at_24 : decode cX14_at 24 = .ok (.lload 4, 2) := dk_22 4 (dk_at dksX14_at_1 0 rfl rfl)
theorem dX14_at_26 : decode cX14_at 26 = .ok (.lcmp, 1) := dk_148 (dk_at dksX14_at_1 2 rfl rfl)
theorem dX14_at_27 : decode cX14_at 27 = .ok (.ifCond .le 7, 3) := dk_158 0 7 (dk_at dksX14_at_1 3 rfl rfl)
theorem dX14_at_30 : decode cX14_at 30 = .ok (.iconst 1, 1) := dk_4 (dk_at dksX14_at_1 6 rfl rfl)
theorem dX14_at_31 : decode cX14_at 31 = .ok (.goto 4, 3) := dk_167 0 4 (dk_at dksX14_at_1 7 rfl rfl)
theorem dX14_at_34 : decode cX14_at 34 = .ok (.iconst 0, 1) := dk_3 (dk_at dksX14_at_1 10 rfl rfl)
theorem dX14_at_35 : decode cX14_at 35 = .ok (.if_icmp .ne 7, 3) := dk_160 0 7 (dk_at dksX14_at_1 11 rfl rfl)
theorem dX14_at_38 : decode cX14_at 38 = .ok (.lload_n 2, 1) := dk_32 (dk_at dksX14_at_1 14 rfl rfl)
theorem dX14_at_39 : decode cX14_at 39 = .ok (.goto 5, 3) := dk_167 0 5 (dk_at dksX14_at_1 15 rfl rfl)
theorem dX14_at_42 : decode cX14_at 42 = .ok (.lload 4, 2) := dk_22 4 (dk_at dksX14_at_1 18 rfl rfl)
theorem dX14_at_44 : decode cX14_at 44 = .ok (.lreturn, 1) := dk_173 (dk_at dksX14_at_1 20 rfl rfl)
abbrev cX15_init : ByteArray := prog_9_method_1_code
def yX15_init : MethodName := ⟨RX15, "<init>", "(J)V"⟩
def dkwX15_init_0 : List UInt8 := [42, 183, 0, 1, 42, 31, 181, 0, 7, 177]
abbrev dktX15_init_0 : List UInt8 := dkwX15_init_0 ++ []
theorem dksX15_init_0 : cX15_init.data.toList.drop 0 = dktX15_init_0 := by decide +kernel
theorem dX15_init_0 : decode cX15_init 0 = .ok (.aload_n 0, 1) := dk_42 (dk_at dksX15_init_0 0 rfl rfl)
theorem dX15_init_1 : decode cX15_init 1 = .ok (.invokespecial 1, 3) := dk_183 0 1 (dk_at dksX15_init_0 1 rfl rfl)
theorem dX15_init_4 : decode cX15_init 4 = .ok (.aload_n 0, 1) := dk_42 (dk_at dksX15_init_0 4 rfl rfl)
theorem dX15_init_5 : decode cX15_init 5 = .ok (.lload_n 1, 1) := dk_31 (dk_at dksX15_init_0 5 rfl rfl)
theorem dX15_init_6 : decode cX15_init 6 = .ok (.putfield 7, 3) := dk_181 0 7 (dk_at dksX15_init_0 6 rfl rfl)
theorem dX15_init_9 : decode cX15_init 9 = .ok (.return_, 1) := dk_177 (dk_at dksX15_init_0 9 rfl rfl)
abbrev cX15_at : ByteArray := prog_9_method_2_code
def yX15_at : MethodName := ⟨RX15, "at", "(LGardenChess$Moment;)J"⟩
theorem dX15_at_0 : decode cX15_at 0 = .ok (.aload_n 0, 1) := by decide +kernel
theorem dX15_at_1 : decode cX15_at 1 = .ok (.getfield 7, 3) := by decide +kernel
theorem dX15_at_4 : decode cX15_at 4 = .ok (.lreturn, 1) := by decide +kernel
abbrev cX16_init : ByteArray := prog_3_method_1_code
def yX16_init : MethodName := ⟨RX16, "<init>", "(I)V"⟩
def dkwX16_init_0 : List UInt8 := [42, 183, 0, 1, 42, 27, 181, 0, 7, 177]
abbrev dktX16_init_0 : List UInt8 := dkwX16_init_0 ++ []
theorem dksX16_init_0 : cX16_init.data.toList.drop 0 = dktX16_init_0 := by decide +kernel
theorem dX16_init_0 : decode cX16_init 0 = .ok (.aload_n 0, 1) := dk_42 (dk_at dksX16_init_0 0 rfl rfl)
theorem dX16_init_1 : decode cX16_init 1 = .ok (.invokespecial 1, 3) := dk_183 0 1 (dk_at dksX16_init_0 1 rfl rfl)
theorem dX16_init_4 : decode cX16_init 4 = .ok (.aload_n 0, 1) := dk_42 (dk_at dksX16_init_0 4 rfl rfl)
theorem dX16_init_5 : decode cX16_init 5 = .ok (.iload_n 1, 1) := dk_27 (dk_at dksX16_init_0 5 rfl rfl)
theorem dX16_init_6 : decode cX16_init 6 = .ok (.putfield 7, 3) := dk_181 0 7 (dk_at dksX16_init_0 6 rfl rfl)
theorem dX16_init_9 : decode cX16_init 9 = .ok (.return_, 1) := dk_177 (dk_at dksX16_init_0 9 rfl rfl)
abbrev cX16_at : ByteArray := prog_3_method_2_code
def yX16_at : MethodName := ⟨RX16, "at", "(LGardenChess$Moment;)J"⟩
def dkwX16_at_0 : List UInt8 := [43, 180, 0, 13, 42, 180, 0, 7, 47, 184, 0, 19, 173]
abbrev dktX16_at_0 : List UInt8 := dkwX16_at_0 ++ []
theorem dksX16_at_0 : cX16_at.data.toList.drop 0 = dktX16_at_0 := by decide +kernel
theorem dX16_at_0 : decode cX16_at 0 = .ok (.aload_n 1, 1) := dk_43 (dk_at dksX16_at_0 0 rfl rfl)
theorem dX16_at_1 : decode cX16_at 1 = .ok (.getfield 13, 3) := dk_180 0 13 (dk_at dksX16_at_0 1 rfl rfl)
theorem dX16_at_4 : decode cX16_at 4 = .ok (.aload_n 0, 1) := dk_42 (dk_at dksX16_at_0 4 rfl rfl)
theorem dX16_at_5 : decode cX16_at 5 = .ok (.getfield 7, 3) := dk_180 0 7 (dk_at dksX16_at_0 5 rfl rfl)
theorem dX16_at_8 : decode cX16_at 8 = .ok (.laload, 1) := dk_47 (dk_at dksX16_at_0 8 rfl rfl)
theorem dX16_at_9 : decode cX16_at 9 = .ok (.invokestatic 19, 3) := dk_184 0 19 (dk_at dksX16_at_0 9 rfl rfl)
theorem dX16_at_12 : decode cX16_at 12 = .ok (.lreturn, 1) := dk_173 (dk_at dksX16_at_0 12 rfl rfl)
abbrev cX17_init : ByteArray := prog_11_method_1_code
def yX17_init : MethodName := ⟨RX17, "<init>", "(LGardenChess;ILGardenChess$Value;)V"⟩
def dkwX17_init_0 : List UInt8 := [42, 43, 181, 0, 1, 42, 183, 0, 7, 42, 28, 181, 0, 13, 42, 45, 181, 0, 17, 177]
abbrev dktX17_init_0 : List UInt8 := dkwX17_init_0 ++ []
theorem dksX17_init_0 : cX17_init.data.toList.drop 0 = dktX17_init_0 := by decide +kernel
theorem dX17_init_0 : decode cX17_init 0 = .ok (.aload_n 0, 1) := dk_42 (dk_at dksX17_init_0 0 rfl rfl)
theorem dX17_init_1 : decode cX17_init 1 = .ok (.aload_n 1, 1) := dk_43 (dk_at dksX17_init_0 1 rfl rfl)
theorem dX17_init_2 : decode cX17_init 2 = .ok (.putfield 1, 3) := dk_181 0 1 (dk_at dksX17_init_0 2 rfl rfl)
theorem dX17_init_5 : decode cX17_init 5 = .ok (.aload_n 0, 1) := dk_42 (dk_at dksX17_init_0 5 rfl rfl)
theorem dX17_init_6 : decode cX17_init 6 = .ok (.invokespecial 7, 3) := dk_183 0 7 (dk_at dksX17_init_0 6 rfl rfl)
theorem dX17_init_9 : decode cX17_init 9 = .ok (.aload_n 0, 1) := dk_42 (dk_at dksX17_init_0 9 rfl rfl)
theorem dX17_init_10 : decode cX17_init 10 = .ok (.iload_n 2, 1) := dk_28 (dk_at dksX17_init_0 10 rfl rfl)
theorem dX17_init_11 : decode cX17_init 11 = .ok (.putfield 13, 3) := dk_181 0 13 (dk_at dksX17_init_0 11 rfl rfl)
theorem dX17_init_14 : decode cX17_init 14 = .ok (.aload_n 0, 1) := dk_42 (dk_at dksX17_init_0 14 rfl rfl)
theorem dX17_init_15 : decode cX17_init 15 = .ok (.aload_n 3, 1) := dk_45 (dk_at dksX17_init_0 15 rfl rfl)
theorem dX17_init_16 : decode cX17_init 16 = .ok (.putfield 17, 3) := dk_181 0 17 (dk_at dksX17_init_0 16 rfl rfl)
theorem dX17_init_19 : decode cX17_init 19 = .ok (.return_, 1) := dk_177 (dk_at dksX17_init_0 19 rfl rfl)
abbrev cX17_at : ByteArray := prog_11_method_2_code
def yX17_at : MethodName := ⟨RX17, "at", "(LGardenChess$Moment;)J"⟩
def dkwX17_at_0 : List UInt8 := [42, 180, 0, 1, 42, 180, 0, 13, 42, 180, 0, 17, 43, 182, 0, 21, 182, 0, 25, 184, 0, 31, 173]
abbrev dktX17_at_0 : List UInt8 := dkwX17_at_0 ++ []
theorem dksX17_at_0 : cX17_at.data.toList.drop 0 = dktX17_at_0 := by decide +kernel
theorem dX17_at_0 : decode cX17_at 0 = .ok (.aload_n 0, 1) := dk_42 (dk_at dksX17_at_0 0 rfl rfl)
theorem dX17_at_1 : decode cX17_at 1 = .ok (.getfield 1, 3) := dk_180 0 1 (dk_at dksX17_at_0 1 rfl rfl)
theorem dX17_at_4 : decode cX17_at 4 = .ok (.aload_n 0, 1) := dk_42 (dk_at dksX17_at_0 4 rfl rfl)
theorem dX17_at_5 : decode cX17_at 5 = .ok (.getfield 13, 3) := dk_180 0 13 (dk_at dksX17_at_0 5 rfl rfl)
theorem dX17_at_8 : decode cX17_at 8 = .ok (.aload_n 0, 1) := dk_42 (dk_at dksX17_at_0 8 rfl rfl)
theorem dX17_at_9 : decode cX17_at 9 = .ok (.getfield 17, 3) := dk_180 0 17 (dk_at dksX17_at_0 9 rfl rfl)
theorem dX17_at_12 : decode cX17_at 12 = .ok (.aload_n 1, 1) := dk_43 (dk_at dksX17_at_0 12 rfl rfl)
theorem dX17_at_13 : decode cX17_at 13 = .ok (.invokevirtual 21, 3) := dk_182 0 21 (dk_at dksX17_at_0 13 rfl rfl)
theorem dX17_at_16 : decode cX17_at 16 = .ok (.invokevirtual 25, 3) := dk_182 0 25 (dk_at dksX17_at_0 16 rfl rfl)
theorem dX17_at_19 : decode cX17_at 19 = .ok (.invokestatic 31, 3) := dk_184 0 31 (dk_at dksX17_at_0 19 rfl rfl)
theorem dX17_at_22 : decode cX17_at 22 = .ok (.lreturn, 1) := dk_173 (dk_at dksX17_at_0 22 rfl rfl)
abbrev cX18_init : ByteArray := prog_18_method_1_code
def yX18_init : MethodName := ⟨RX18, "<init>", "(ILGardenChess$Test;LGardenChess$Value;)V"⟩
def dkwX18_init_1 : List UInt8 := [181, 0, 25, 177]
abbrev dktX18_init_1 : List UInt8 := dkwX18_init_1 ++ []
def dkwX18_init_0 : List UInt8 := [42, 183, 0, 3, 42, 20, 0, 9, 181, 0, 11, 42, 27, 181, 0, 17, 42, 44, 181, 0, 21, 42, 45]
abbrev dktX18_init_0 : List UInt8 := dkwX18_init_0 ++ dktX18_init_1
theorem dksX18_init_0 : cX18_init.data.toList.drop 0 = dktX18_init_0 := by decide +kernel
theorem dksX18_init_1 : cX18_init.data.toList.drop 23 = dktX18_init_1 := dk_seg dksX18_init_0 23 rfl rfl
theorem dX18_init_0 : decode cX18_init 0 = .ok (.aload_n 0, 1) := dk_42 (dk_at dksX18_init_0 0 rfl rfl)
theorem dX18_init_1 : decode cX18_init 1 = .ok (.invokespecial 3, 3) := dk_183 0 3 (dk_at dksX18_init_0 1 rfl rfl)
theorem dX18_init_4 : decode cX18_init 4 = .ok (.aload_n 0, 1) := dk_42 (dk_at dksX18_init_0 4 rfl rfl)
theorem dX18_init_5 : decode cX18_init 5 = .ok (.ldc2_w 9, 3) := dk_20 0 9 (dk_at dksX18_init_0 5 rfl rfl)
theorem dX18_init_8 : decode cX18_init 8 = .ok (.putfield 11, 3) := dk_181 0 11 (dk_at dksX18_init_0 8 rfl rfl)
theorem dX18_init_11 : decode cX18_init 11 = .ok (.aload_n 0, 1) := dk_42 (dk_at dksX18_init_0 11 rfl rfl)
theorem dX18_init_12 : decode cX18_init 12 = .ok (.iload_n 1, 1) := dk_27 (dk_at dksX18_init_0 12 rfl rfl)
theorem dX18_init_13 : decode cX18_init 13 = .ok (.putfield 17, 3) := dk_181 0 17 (dk_at dksX18_init_0 13 rfl rfl)
theorem dX18_init_16 : decode cX18_init 16 = .ok (.aload_n 0, 1) := dk_42 (dk_at dksX18_init_0 16 rfl rfl)
theorem dX18_init_17 : decode cX18_init 17 = .ok (.aload_n 2, 1) := dk_44 (dk_at dksX18_init_0 17 rfl rfl)
theorem dX18_init_18 : decode cX18_init 18 = .ok (.putfield 21, 3) := dk_181 0 21 (dk_at dksX18_init_0 18 rfl rfl)
theorem dX18_init_21 : decode cX18_init 21 = .ok (.aload_n 0, 1) := dk_42 (dk_at dksX18_init_0 21 rfl rfl)
theorem dX18_init_22 : decode cX18_init 22 = .ok (.aload_n 3, 1) := dk_45 (dk_at dksX18_init_0 22 rfl rfl)
theorem dX18_init_23 : decode cX18_init 23 = .ok (.putfield 25, 3) := dk_181 0 25 (dk_at dksX18_init_1 0 rfl rfl)
theorem dX18_init_26 : decode cX18_init 26 = .ok (.return_, 1) := dk_177 (dk_at dksX18_init_1 3 rfl rfl)
abbrev cX18_meets : ByteArray := prog_18_method_2_code
def yX18_meets : MethodName := ⟨RX18, "meets", "(ILGardenChess$Moment;)V"⟩
def dkwX18_meets_6 : List UInt8 := [181, 0, 11, 42, 4, 181, 0, 41, 177]
abbrev dktX18_meets_6 : List UInt8 := dkwX18_meets_6 ++ []
def dkwX18_meets_5 : List UInt8 := [7, 160, 0, 14, 42, 180, 0, 11, 33, 184, 0, 35, 167, 0, 11, 42, 180, 0, 11, 33, 184, 0, 51]
abbrev dktX18_meets_5 : List UInt8 := dkwX18_meets_5 ++ dktX18_meets_6
def dkwX18_meets_4 : List UInt8 := [167, 0, 47, 42, 180, 0, 17, 6, 160, 0, 12, 42, 180, 0, 11, 33, 97, 167, 0, 30, 42, 180, 0, 17]
abbrev dktX18_meets_4 : List UInt8 := dkwX18_meets_4 ++ dktX18_meets_5
def dkwX18_meets_3 : List UInt8 := [181, 0, 41, 177, 42, 180, 0, 25, 44, 182, 0, 45, 66, 42, 42, 180, 0, 41, 154, 0, 7, 33]
abbrev dktX18_meets_3 : List UInt8 := dkwX18_meets_3 ++ dktX18_meets_4
def dkwX18_meets_2 : List UInt8 := [154, 0, 17, 42, 180, 0, 41, 153, 0, 10, 42, 180, 0, 11, 167, 0, 5, 27, 133, 181, 0, 11, 42, 4]
abbrev dktX18_meets_2 : List UInt8 := dkwX18_meets_2 ++ dktX18_meets_3
def dkwX18_meets_1 : List UInt8 := [180, 0, 17, 5, 160, 0, 16, 9, 42, 180, 0, 11, 184, 0, 35, 10, 97, 167, 0, 26, 42, 180, 0, 17]
abbrev dktX18_meets_1 : List UInt8 := dkwX18_meets_1 ++ dktX18_meets_2
def dkwX18_meets_0 : List UInt8 := [42, 180, 0, 17, 6, 162, 0, 69, 42, 180, 0, 21, 44, 182, 0, 29, 154, 0, 4, 177, 42, 42]
abbrev dktX18_meets_0 : List UInt8 := dkwX18_meets_0 ++ dktX18_meets_1
theorem dksX18_meets_0 : cX18_meets.data.toList.drop 0 = dktX18_meets_0 := by decide +kernel
theorem dksX18_meets_1 : cX18_meets.data.toList.drop 22 = dktX18_meets_1 := dk_seg dksX18_meets_0 22 rfl rfl
theorem dksX18_meets_2 : cX18_meets.data.toList.drop 46 = dktX18_meets_2 := dk_seg dksX18_meets_1 24 rfl rfl
theorem dksX18_meets_3 : cX18_meets.data.toList.drop 70 = dktX18_meets_3 := dk_seg dksX18_meets_2 24 rfl rfl
theorem dksX18_meets_4 : cX18_meets.data.toList.drop 92 = dktX18_meets_4 := dk_seg dksX18_meets_3 22 rfl rfl
theorem dksX18_meets_5 : cX18_meets.data.toList.drop 116 = dktX18_meets_5 := dk_seg dksX18_meets_4 24 rfl rfl
theorem dksX18_meets_6 : cX18_meets.data.toList.drop 139 = dktX18_meets_6 := dk_seg dksX18_meets_5 23 rfl rfl
theorem dX18_meets_0 : decode cX18_meets 0 = .ok (.aload_n 0, 1) := dk_42 (dk_at dksX18_meets_0 0 rfl rfl)
theorem dX18_meets_1 : decode cX18_meets 1 = .ok (.getfield 17, 3) := dk_180 0 17 (dk_at dksX18_meets_0 1 rfl rfl)
theorem dX18_meets_4 : decode cX18_meets 4 = .ok (.iconst 3, 1) := dk_6 (dk_at dksX18_meets_0 4 rfl rfl)
theorem dX18_meets_5 : decode cX18_meets 5 = .ok (.if_icmp .ge 69, 3) := dk_162 0 69 (dk_at dksX18_meets_0 5 rfl rfl)
theorem dX18_meets_8 : decode cX18_meets 8 = .ok (.aload_n 0, 1) := dk_42 (dk_at dksX18_meets_0 8 rfl rfl)
theorem dX18_meets_9 : decode cX18_meets 9 = .ok (.getfield 21, 3) := dk_180 0 21 (dk_at dksX18_meets_0 9 rfl rfl)
theorem dX18_meets_12 : decode cX18_meets 12 = .ok (.aload_n 2, 1) := dk_44 (dk_at dksX18_meets_0 12 rfl rfl)
theorem dX18_meets_13 : decode cX18_meets 13 = .ok (.invokevirtual 29, 3) := dk_182 0 29 (dk_at dksX18_meets_0 13 rfl rfl)
theorem dX18_meets_16 : decode cX18_meets 16 = .ok (.ifCond .ne 4, 3) := dk_154 0 4 (dk_at dksX18_meets_0 16 rfl rfl)
theorem dX18_meets_19 : decode cX18_meets 19 = .ok (.return_, 1) := dk_177 (dk_at dksX18_meets_0 19 rfl rfl)
theorem dX18_meets_20 : decode cX18_meets 20 = .ok (.aload_n 0, 1) := dk_42 (dk_at dksX18_meets_0 20 rfl rfl)
theorem dX18_meets_21 : decode cX18_meets 21 = .ok (.aload_n 0, 1) := dk_42 (dk_at dksX18_meets_0 21 rfl rfl)
theorem dX18_meets_22 : decode cX18_meets 22 = .ok (.getfield 17, 3) := dk_180 0 17 (dk_at dksX18_meets_1 0 rfl rfl)
theorem dX18_meets_25 : decode cX18_meets 25 = .ok (.iconst 2, 1) := dk_5 (dk_at dksX18_meets_1 3 rfl rfl)
theorem dX18_meets_26 : decode cX18_meets 26 = .ok (.if_icmp .ne 16, 3) := dk_160 0 16 (dk_at dksX18_meets_1 4 rfl rfl)
theorem dX18_meets_29 : decode cX18_meets 29 = .ok (.lconst 0, 1) := dk_9 (dk_at dksX18_meets_1 7 rfl rfl)
theorem dX18_meets_30 : decode cX18_meets 30 = .ok (.aload_n 0, 1) := dk_42 (dk_at dksX18_meets_1 8 rfl rfl)
theorem dX18_meets_31 : decode cX18_meets 31 = .ok (.getfield 11, 3) := dk_180 0 11 (dk_at dksX18_meets_1 9 rfl rfl)
theorem dX18_meets_34 : decode cX18_meets 34 = .ok (.invokestatic 35, 3) := dk_184 0 35 (dk_at dksX18_meets_1 12 rfl rfl)
theorem dX18_meets_37 : decode cX18_meets 37 = .ok (.lconst 1, 1) := dk_10 (dk_at dksX18_meets_1 15 rfl rfl)
theorem dX18_meets_38 : decode cX18_meets 38 = .ok (.ladd, 1) := dk_97 (dk_at dksX18_meets_1 16 rfl rfl)
theorem dX18_meets_39 : decode cX18_meets 39 = .ok (.goto 26, 3) := dk_167 0 26 (dk_at dksX18_meets_1 17 rfl rfl)
theorem dX18_meets_42 : decode cX18_meets 42 = .ok (.aload_n 0, 1) := dk_42 (dk_at dksX18_meets_1 20 rfl rfl)
theorem dX18_meets_43 : decode cX18_meets 43 = .ok (.getfield 17, 3) := dk_180 0 17 (dk_at dksX18_meets_1 21 rfl rfl)
theorem dX18_meets_46 : decode cX18_meets 46 = .ok (.ifCond .ne 17, 3) := dk_154 0 17 (dk_at dksX18_meets_2 0 rfl rfl)
theorem dX18_meets_49 : decode cX18_meets 49 = .ok (.aload_n 0, 1) := dk_42 (dk_at dksX18_meets_2 3 rfl rfl)
theorem dX18_meets_50 : decode cX18_meets 50 = .ok (.getfield 41, 3) := dk_180 0 41 (dk_at dksX18_meets_2 4 rfl rfl)
theorem dX18_meets_53 : decode cX18_meets 53 = .ok (.ifCond .eq 10, 3) := dk_153 0 10 (dk_at dksX18_meets_2 7 rfl rfl)
theorem dX18_meets_56 : decode cX18_meets 56 = .ok (.aload_n 0, 1) := dk_42 (dk_at dksX18_meets_2 10 rfl rfl)
theorem dX18_meets_57 : decode cX18_meets 57 = .ok (.getfield 11, 3) := dk_180 0 11 (dk_at dksX18_meets_2 11 rfl rfl)
theorem dX18_meets_60 : decode cX18_meets 60 = .ok (.goto 5, 3) := dk_167 0 5 (dk_at dksX18_meets_2 14 rfl rfl)
theorem dX18_meets_63 : decode cX18_meets 63 = .ok (.iload_n 1, 1) := dk_27 (dk_at dksX18_meets_2 17 rfl rfl)
theorem dX18_meets_64 : decode cX18_meets 64 = .ok (.i2l, 1) := dk_133 (dk_at dksX18_meets_2 18 rfl rfl)
theorem dX18_meets_65 : decode cX18_meets 65 = .ok (.putfield 11, 3) := dk_181 0 11 (dk_at dksX18_meets_2 19 rfl rfl)
theorem dX18_meets_68 : decode cX18_meets 68 = .ok (.aload_n 0, 1) := dk_42 (dk_at dksX18_meets_2 22 rfl rfl)
theorem dX18_meets_69 : decode cX18_meets 69 = .ok (.iconst 1, 1) := dk_4 (dk_at dksX18_meets_2 23 rfl rfl)
theorem dX18_meets_70 : decode cX18_meets 70 = .ok (.putfield 41, 3) := dk_181 0 41 (dk_at dksX18_meets_3 0 rfl rfl)
theorem dX18_meets_73 : decode cX18_meets 73 = .ok (.return_, 1) := dk_177 (dk_at dksX18_meets_3 3 rfl rfl)
theorem dX18_meets_74 : decode cX18_meets 74 = .ok (.aload_n 0, 1) := dk_42 (dk_at dksX18_meets_3 4 rfl rfl)
theorem dX18_meets_75 : decode cX18_meets 75 = .ok (.getfield 25, 3) := dk_180 0 25 (dk_at dksX18_meets_3 5 rfl rfl)
theorem dX18_meets_78 : decode cX18_meets 78 = .ok (.aload_n 2, 1) := dk_44 (dk_at dksX18_meets_3 8 rfl rfl)
theorem dX18_meets_79 : decode cX18_meets 79 = .ok (.invokevirtual 45, 3) := dk_182 0 45 (dk_at dksX18_meets_3 9 rfl rfl)
theorem dX18_meets_82 : decode cX18_meets 82 = .ok (.lstore_n 3, 1) := dk_66 (dk_at dksX18_meets_3 12 rfl rfl)
theorem dX18_meets_83 : decode cX18_meets 83 = .ok (.aload_n 0, 1) := dk_42 (dk_at dksX18_meets_3 13 rfl rfl)
theorem dX18_meets_84 : decode cX18_meets 84 = .ok (.aload_n 0, 1) := dk_42 (dk_at dksX18_meets_3 14 rfl rfl)
theorem dX18_meets_85 : decode cX18_meets 85 = .ok (.getfield 41, 3) := dk_180 0 41 (dk_at dksX18_meets_3 15 rfl rfl)
theorem dX18_meets_88 : decode cX18_meets 88 = .ok (.ifCond .ne 7, 3) := dk_154 0 7 (dk_at dksX18_meets_3 18 rfl rfl)
theorem dX18_meets_91 : decode cX18_meets 91 = .ok (.lload_n 3, 1) := dk_33 (dk_at dksX18_meets_3 21 rfl rfl)
theorem dX18_meets_92 : decode cX18_meets 92 = .ok (.goto 47, 3) := dk_167 0 47 (dk_at dksX18_meets_4 0 rfl rfl)
theorem dX18_meets_95 : decode cX18_meets 95 = .ok (.aload_n 0, 1) := dk_42 (dk_at dksX18_meets_4 3 rfl rfl)
theorem dX18_meets_96 : decode cX18_meets 96 = .ok (.getfield 17, 3) := dk_180 0 17 (dk_at dksX18_meets_4 4 rfl rfl)
theorem dX18_meets_99 : decode cX18_meets 99 = .ok (.iconst 3, 1) := dk_6 (dk_at dksX18_meets_4 7 rfl rfl)
theorem dX18_meets_100 : decode cX18_meets 100 = .ok (.if_icmp .ne 12, 3) := dk_160 0 12 (dk_at dksX18_meets_4 8 rfl rfl)
theorem dX18_meets_103 : decode cX18_meets 103 = .ok (.aload_n 0, 1) := dk_42 (dk_at dksX18_meets_4 11 rfl rfl)
theorem dX18_meets_104 : decode cX18_meets 104 = .ok (.getfield 11, 3) := dk_180 0 11 (dk_at dksX18_meets_4 12 rfl rfl)
theorem dX18_meets_107 : decode cX18_meets 107 = .ok (.lload_n 3, 1) := dk_33 (dk_at dksX18_meets_4 15 rfl rfl)
theorem dX18_meets_108 : decode cX18_meets 108 = .ok (.ladd, 1) := dk_97 (dk_at dksX18_meets_4 16 rfl rfl)
theorem dX18_meets_109 : decode cX18_meets 109 = .ok (.goto 30, 3) := dk_167 0 30 (dk_at dksX18_meets_4 17 rfl rfl)
theorem dX18_meets_112 : decode cX18_meets 112 = .ok (.aload_n 0, 1) := dk_42 (dk_at dksX18_meets_4 20 rfl rfl)
theorem dX18_meets_113 : decode cX18_meets 113 = .ok (.getfield 17, 3) := dk_180 0 17 (dk_at dksX18_meets_4 21 rfl rfl)
theorem dX18_meets_116 : decode cX18_meets 116 = .ok (.iconst 4, 1) := dk_7 (dk_at dksX18_meets_5 0 rfl rfl)
theorem dX18_meets_117 : decode cX18_meets 117 = .ok (.if_icmp .ne 14, 3) := dk_160 0 14 (dk_at dksX18_meets_5 1 rfl rfl)
theorem dX18_meets_120 : decode cX18_meets 120 = .ok (.aload_n 0, 1) := dk_42 (dk_at dksX18_meets_5 4 rfl rfl)
theorem dX18_meets_121 : decode cX18_meets 121 = .ok (.getfield 11, 3) := dk_180 0 11 (dk_at dksX18_meets_5 5 rfl rfl)
theorem dX18_meets_124 : decode cX18_meets 124 = .ok (.lload_n 3, 1) := dk_33 (dk_at dksX18_meets_5 8 rfl rfl)
theorem dX18_meets_125 : decode cX18_meets 125 = .ok (.invokestatic 35, 3) := dk_184 0 35 (dk_at dksX18_meets_5 9 rfl rfl)
theorem dX18_meets_128 : decode cX18_meets 128 = .ok (.goto 11, 3) := dk_167 0 11 (dk_at dksX18_meets_5 12 rfl rfl)
theorem dX18_meets_131 : decode cX18_meets 131 = .ok (.aload_n 0, 1) := dk_42 (dk_at dksX18_meets_5 15 rfl rfl)
theorem dX18_meets_132 : decode cX18_meets 132 = .ok (.getfield 11, 3) := dk_180 0 11 (dk_at dksX18_meets_5 16 rfl rfl)
theorem dX18_meets_135 : decode cX18_meets 135 = .ok (.lload_n 3, 1) := dk_33 (dk_at dksX18_meets_5 19 rfl rfl)
theorem dX18_meets_136 : decode cX18_meets 136 = .ok (.invokestatic 51, 3) := dk_184 0 51 (dk_at dksX18_meets_5 20 rfl rfl)
theorem dX18_meets_139 : decode cX18_meets 139 = .ok (.putfield 11, 3) := dk_181 0 11 (dk_at dksX18_meets_6 0 rfl rfl)
theorem dX18_meets_142 : decode cX18_meets 142 = .ok (.aload_n 0, 1) := dk_42 (dk_at dksX18_meets_6 3 rfl rfl)
theorem dX18_meets_143 : decode cX18_meets 143 = .ok (.iconst 1, 1) := dk_4 (dk_at dksX18_meets_6 4 rfl rfl)
theorem dX18_meets_144 : decode cX18_meets 144 = .ok (.putfield 41, 3) := dk_181 0 41 (dk_at dksX18_meets_6 5 rfl rfl)
theorem dX18_meets_147 : decode cX18_meets 147 = .ok (.return_, 1) := dk_177 (dk_at dksX18_meets_6 8 rfl rfl)
abbrev cX18_answer : ByteArray := prog_18_method_3_code
def yX18_answer : MethodName := ⟨RX18, "answer", "()J"⟩
def dkwX18_answer_0 : List UInt8 := [42, 180, 0, 41, 154, 0, 11, 42, 180, 0, 17, 5, 162, 0, 10, 42, 180, 0, 11, 167, 0, 4, 9, 173]
abbrev dktX18_answer_0 : List UInt8 := dkwX18_answer_0 ++ []
theorem dksX18_answer_0 : cX18_answer.data.toList.drop 0 = dktX18_answer_0 := by decide +kernel
theorem dX18_answer_0 : decode cX18_answer 0 = .ok (.aload_n 0, 1) := dk_42 (dk_at dksX18_answer_0 0 rfl rfl)
theorem dX18_answer_1 : decode cX18_answer 1 = .ok (.getfield 41, 3) := dk_180 0 41 (dk_at dksX18_answer_0 1 rfl rfl)
theorem dX18_answer_4 : decode cX18_answer 4 = .ok (.ifCond .ne 11, 3) := dk_154 0 11 (dk_at dksX18_answer_0 4 rfl rfl)
theorem dX18_answer_7 : decode cX18_answer 7 = .ok (.aload_n 0, 1) := dk_42 (dk_at dksX18_answer_0 7 rfl rfl)
theorem dX18_answer_8 : decode cX18_answer 8 = .ok (.getfield 17, 3) := dk_180 0 17 (dk_at dksX18_answer_0 8 rfl rfl)
theorem dX18_answer_11 : decode cX18_answer 11 = .ok (.iconst 2, 1) := dk_5 (dk_at dksX18_answer_0 11 rfl rfl)
theorem dX18_answer_12 : decode cX18_answer 12 = .ok (.if_icmp .ge 10, 3) := dk_162 0 10 (dk_at dksX18_answer_0 12 rfl rfl)
theorem dX18_answer_15 : decode cX18_answer 15 = .ok (.aload_n 0, 1) := dk_42 (dk_at dksX18_answer_0 15 rfl rfl)
theorem dX18_answer_16 : decode cX18_answer 16 = .ok (.getfield 11, 3) := dk_180 0 11 (dk_at dksX18_answer_0 16 rfl rfl)
theorem dX18_answer_19 : decode cX18_answer 19 = .ok (.goto 4, 3) := dk_167 0 4 (dk_at dksX18_answer_0 19 rfl rfl)
theorem dX18_answer_22 : decode cX18_answer 22 = .ok (.lconst 0, 1) := dk_9 (dk_at dksX18_answer_0 22 rfl rfl)
theorem dX18_answer_23 : decode cX18_answer 23 = .ok (.lreturn, 1) := dk_173 (dk_at dksX18_answer_0 23 rfl rfl)
abbrev cX19_init : ByteArray := prog_21_method_1_code
def yX19_init : MethodName := ⟨RX19, "<init>", "()V"⟩
theorem dX19_init_0 : decode cX19_init 0 = .ok (.aload_n 0, 1) := by decide +kernel
theorem dX19_init_1 : decode cX19_init 1 = .ok (.invokespecial 1, 3) := by decide +kernel
theorem dX19_init_4 : decode cX19_init 4 = .ok (.return_, 1) := by decide +kernel
abbrev cX2_init : ByteArray := prog_19_method_1_code
def yX2_init : MethodName := ⟨RX2, "<init>", "(LGardenChess;)V"⟩
def dkwX2_init_0 : List UInt8 := [42, 43, 181, 0, 3, 42, 183, 0, 9, 42, 187, 0, 15, 89, 183, 0, 17, 181, 0, 18, 177]
abbrev dktX2_init_0 : List UInt8 := dkwX2_init_0 ++ []
theorem dksX2_init_0 : cX2_init.data.toList.drop 0 = dktX2_init_0 := by decide +kernel
theorem dX2_init_0 : decode cX2_init 0 = .ok (.aload_n 0, 1) := dk_42 (dk_at dksX2_init_0 0 rfl rfl)
theorem dX2_init_1 : decode cX2_init 1 = .ok (.aload_n 1, 1) := dk_43 (dk_at dksX2_init_0 1 rfl rfl)
theorem dX2_init_2 : decode cX2_init 2 = .ok (.putfield 3, 3) := dk_181 0 3 (dk_at dksX2_init_0 2 rfl rfl)
theorem dX2_init_5 : decode cX2_init 5 = .ok (.aload_n 0, 1) := dk_42 (dk_at dksX2_init_0 5 rfl rfl)
theorem dX2_init_6 : decode cX2_init 6 = .ok (.invokespecial 9, 3) := dk_183 0 9 (dk_at dksX2_init_0 6 rfl rfl)
theorem dX2_init_9 : decode cX2_init 9 = .ok (.aload_n 0, 1) := dk_42 (dk_at dksX2_init_0 9 rfl rfl)
theorem dX2_init_10 : decode cX2_init 10 = .ok (.new 15, 3) := dk_187 0 15 (dk_at dksX2_init_0 10 rfl rfl)
theorem dX2_init_13 : decode cX2_init 13 = .ok (.dup, 1) := dk_89 (dk_at dksX2_init_0 13 rfl rfl)
theorem dX2_init_14 : decode cX2_init 14 = .ok (.invokespecial 17, 3) := dk_183 0 17 (dk_at dksX2_init_0 14 rfl rfl)
theorem dX2_init_17 : decode cX2_init 17 = .ok (.putfield 18, 3) := dk_181 0 18 (dk_at dksX2_init_0 17 rfl rfl)
theorem dX2_init_20 : decode cX2_init 20 = .ok (.return_, 1) := dk_177 (dk_at dksX2_init_0 20 rfl rfl)
abbrev cX2_all : ByteArray := prog_19_method_16_code
def yX2_all : MethodName := ⟨RX2, "all", "(I)LGardenChess$Board;"⟩
def dkwX2_all_7 : List UInt8 := [182, 0, 154, 42, 16, 59, 182, 0, 143, 167, 255, 190, 42, 180, 0, 103, 176]
abbrev dktX2_all_7 : List UInt8 := dkwX2_all_7 ++ []
def dkwX2_all_6 : List UInt8 := [42, 180, 0, 103, 89, 180, 0, 147, 4, 96, 181, 0, 147, 42, 182, 0, 70, 77, 42, 44, 42, 180, 0, 61]
abbrev dktX2_all_6 : List UInt8 := dkwX2_all_6 ++ dktX2_all_7
def dkwX2_all_5 : List UInt8 := [42, 180, 0, 103, 180, 0, 147, 16, 60, 160, 0, 7, 4, 167, 0, 4, 3, 42, 180, 0, 36, 182, 0, 150]
abbrev dktX2_all_5 : List UInt8 := dkwX2_all_5 ++ dktX2_all_6
def dkwX2_all_4 : List UInt8 := [79, 42, 16, 59, 182, 0, 143, 42, 180, 0, 103, 4, 181, 0, 147, 42, 182, 0, 43, 2, 159, 0, 64, 42]
abbrev dktX2_all_4 : List UInt8 := dkwX2_all_4 ++ dktX2_all_5
def dkwX2_all_3 : List UInt8 := [18, 139, 4, 5, 182, 0, 129, 79, 42, 180, 0, 103, 180, 0, 135, 4, 42, 18, 141, 4, 5, 182, 0, 129]
abbrev dktX2_all_3 : List UInt8 := dkwX2_all_3 ++ dktX2_all_4
def dkwX2_all_2 : List UInt8 := [180, 0, 103, 42, 18, 127, 5, 8, 182, 0, 129, 181, 0, 132, 42, 180, 0, 103, 180, 0, 135, 3, 42]
abbrev dktX2_all_2 : List UInt8 := dkwX2_all_2 ++ dktX2_all_3
def dkwX2_all_1 : List UInt8 := [181, 0, 119, 42, 18, 122, 182, 0, 93, 42, 180, 0, 103, 42, 5, 8, 182, 0, 96, 181, 0, 124, 42]
abbrev dktX2_all_1 : List UInt8 := dkwX2_all_1 ++ dktX2_all_2
def dkwX2_all_0 : List UInt8 := [42, 187, 0, 108, 89, 183, 0, 118, 181, 0, 103, 42, 27, 181, 0, 29, 42, 3, 181, 0, 36, 42, 3]
abbrev dktX2_all_0 : List UInt8 := dkwX2_all_0 ++ dktX2_all_1
theorem dksX2_all_0 : cX2_all.data.toList.drop 0 = dktX2_all_0 := by decide +kernel
theorem dksX2_all_1 : cX2_all.data.toList.drop 23 = dktX2_all_1 := dk_seg dksX2_all_0 23 rfl rfl
theorem dksX2_all_2 : cX2_all.data.toList.drop 46 = dktX2_all_2 := dk_seg dksX2_all_1 23 rfl rfl
theorem dksX2_all_3 : cX2_all.data.toList.drop 69 = dktX2_all_3 := dk_seg dksX2_all_2 23 rfl rfl
theorem dksX2_all_4 : cX2_all.data.toList.drop 93 = dktX2_all_4 := dk_seg dksX2_all_3 24 rfl rfl
theorem dksX2_all_5 : cX2_all.data.toList.drop 117 = dktX2_all_5 := dk_seg dksX2_all_4 24 rfl rfl
theorem dksX2_all_6 : cX2_all.data.toList.drop 141 = dktX2_all_6 := dk_seg dksX2_all_5 24 rfl rfl
theorem dksX2_all_7 : cX2_all.data.toList.drop 165 = dktX2_all_7 := dk_seg dksX2_all_6 24 rfl rfl
theorem dX2_all_0 : decode cX2_all 0 = .ok (.aload_n 0, 1) := dk_42 (dk_at dksX2_all_0 0 rfl rfl)
theorem dX2_all_1 : decode cX2_all 1 = .ok (.new 108, 3) := dk_187 0 108 (dk_at dksX2_all_0 1 rfl rfl)
theorem dX2_all_4 : decode cX2_all 4 = .ok (.dup, 1) := dk_89 (dk_at dksX2_all_0 4 rfl rfl)
theorem dX2_all_5 : decode cX2_all 5 = .ok (.invokespecial 118, 3) := dk_183 0 118 (dk_at dksX2_all_0 5 rfl rfl)
theorem dX2_all_8 : decode cX2_all 8 = .ok (.putfield 103, 3) := dk_181 0 103 (dk_at dksX2_all_0 8 rfl rfl)
theorem dX2_all_11 : decode cX2_all 11 = .ok (.aload_n 0, 1) := dk_42 (dk_at dksX2_all_0 11 rfl rfl)
theorem dX2_all_12 : decode cX2_all 12 = .ok (.iload_n 1, 1) := dk_27 (dk_at dksX2_all_0 12 rfl rfl)
theorem dX2_all_13 : decode cX2_all 13 = .ok (.putfield 29, 3) := dk_181 0 29 (dk_at dksX2_all_0 13 rfl rfl)
theorem dX2_all_16 : decode cX2_all 16 = .ok (.aload_n 0, 1) := dk_42 (dk_at dksX2_all_0 16 rfl rfl)
theorem dX2_all_17 : decode cX2_all 17 = .ok (.iconst 0, 1) := dk_3 (dk_at dksX2_all_0 17 rfl rfl)
theorem dX2_all_18 : decode cX2_all 18 = .ok (.putfield 36, 3) := dk_181 0 36 (dk_at dksX2_all_0 18 rfl rfl)
theorem dX2_all_21 : decode cX2_all 21 = .ok (.aload_n 0, 1) := dk_42 (dk_at dksX2_all_0 21 rfl rfl)
theorem dX2_all_22 : decode cX2_all 22 = .ok (.iconst 0, 1) := dk_3 (dk_at dksX2_all_0 22 rfl rfl)
theorem dX2_all_23 : decode cX2_all 23 = .ok (.putfield 119, 3) := dk_181 0 119 (dk_at dksX2_all_1 0 rfl rfl)
theorem dX2_all_26 : decode cX2_all 26 = .ok (.aload_n 0, 1) := dk_42 (dk_at dksX2_all_1 3 rfl rfl)
theorem dX2_all_27 : decode cX2_all 27 = .ok (.ldc 122, 2) := dk_18 122 (dk_at dksX2_all_1 4 rfl rfl)
theorem dX2_all_29 : decode cX2_all 29 = .ok (.invokevirtual 93, 3) := dk_182 0 93 (dk_at dksX2_all_1 6 rfl rfl)
theorem dX2_all_32 : decode cX2_all 32 = .ok (.aload_n 0, 1) := dk_42 (dk_at dksX2_all_1 9 rfl rfl)
theorem dX2_all_33 : decode cX2_all 33 = .ok (.getfield 103, 3) := dk_180 0 103 (dk_at dksX2_all_1 10 rfl rfl)
theorem dX2_all_36 : decode cX2_all 36 = .ok (.aload_n 0, 1) := dk_42 (dk_at dksX2_all_1 13 rfl rfl)
theorem dX2_all_37 : decode cX2_all 37 = .ok (.iconst 2, 1) := dk_5 (dk_at dksX2_all_1 14 rfl rfl)
theorem dX2_all_38 : decode cX2_all 38 = .ok (.iconst 5, 1) := dk_8 (dk_at dksX2_all_1 15 rfl rfl)
theorem dX2_all_39 : decode cX2_all 39 = .ok (.invokevirtual 96, 3) := dk_182 0 96 (dk_at dksX2_all_1 16 rfl rfl)
theorem dX2_all_42 : decode cX2_all 42 = .ok (.putfield 124, 3) := dk_181 0 124 (dk_at dksX2_all_1 19 rfl rfl)
theorem dX2_all_45 : decode cX2_all 45 = .ok (.aload_n 0, 1) := dk_42 (dk_at dksX2_all_1 22 rfl rfl)
theorem dX2_all_46 : decode cX2_all 46 = .ok (.getfield 103, 3) := dk_180 0 103 (dk_at dksX2_all_2 0 rfl rfl)
theorem dX2_all_49 : decode cX2_all 49 = .ok (.aload_n 0, 1) := dk_42 (dk_at dksX2_all_2 3 rfl rfl)
theorem dX2_all_50 : decode cX2_all 50 = .ok (.ldc 127, 2) := dk_18 127 (dk_at dksX2_all_2 4 rfl rfl)
theorem dX2_all_52 : decode cX2_all 52 = .ok (.iconst 2, 1) := dk_5 (dk_at dksX2_all_2 6 rfl rfl)
theorem dX2_all_53 : decode cX2_all 53 = .ok (.iconst 5, 1) := dk_8 (dk_at dksX2_all_2 7 rfl rfl)
theorem dX2_all_54 : decode cX2_all 54 = .ok (.invokevirtual 129, 3) := dk_182 0 129 (dk_at dksX2_all_2 8 rfl rfl)
theorem dX2_all_57 : decode cX2_all 57 = .ok (.putfield 132, 3) := dk_181 0 132 (dk_at dksX2_all_2 11 rfl rfl)
theorem dX2_all_60 : decode cX2_all 60 = .ok (.aload_n 0, 1) := dk_42 (dk_at dksX2_all_2 14 rfl rfl)
theorem dX2_all_61 : decode cX2_all 61 = .ok (.getfield 103, 3) := dk_180 0 103 (dk_at dksX2_all_2 15 rfl rfl)
theorem dX2_all_64 : decode cX2_all 64 = .ok (.getfield 135, 3) := dk_180 0 135 (dk_at dksX2_all_2 18 rfl rfl)
theorem dX2_all_67 : decode cX2_all 67 = .ok (.iconst 0, 1) := dk_3 (dk_at dksX2_all_2 21 rfl rfl)
theorem dX2_all_68 : decode cX2_all 68 = .ok (.aload_n 0, 1) := dk_42 (dk_at dksX2_all_2 22 rfl rfl)
theorem dX2_all_69 : decode cX2_all 69 = .ok (.ldc 139, 2) := dk_18 139 (dk_at dksX2_all_3 0 rfl rfl)
theorem dX2_all_71 : decode cX2_all 71 = .ok (.iconst 1, 1) := dk_4 (dk_at dksX2_all_3 2 rfl rfl)
theorem dX2_all_72 : decode cX2_all 72 = .ok (.iconst 2, 1) := dk_5 (dk_at dksX2_all_3 3 rfl rfl)
theorem dX2_all_73 : decode cX2_all 73 = .ok (.invokevirtual 129, 3) := dk_182 0 129 (dk_at dksX2_all_3 4 rfl rfl)
theorem dX2_all_76 : decode cX2_all 76 = .ok (.iastore, 1) := dk_79 (dk_at dksX2_all_3 7 rfl rfl)
theorem dX2_all_77 : decode cX2_all 77 = .ok (.aload_n 0, 1) := dk_42 (dk_at dksX2_all_3 8 rfl rfl)
theorem dX2_all_78 : decode cX2_all 78 = .ok (.getfield 103, 3) := dk_180 0 103 (dk_at dksX2_all_3 9 rfl rfl)
theorem dX2_all_81 : decode cX2_all 81 = .ok (.getfield 135, 3) := dk_180 0 135 (dk_at dksX2_all_3 12 rfl rfl)
theorem dX2_all_84 : decode cX2_all 84 = .ok (.iconst 1, 1) := dk_4 (dk_at dksX2_all_3 15 rfl rfl)
theorem dX2_all_85 : decode cX2_all 85 = .ok (.aload_n 0, 1) := dk_42 (dk_at dksX2_all_3 16 rfl rfl)
theorem dX2_all_86 : decode cX2_all 86 = .ok (.ldc 141, 2) := dk_18 141 (dk_at dksX2_all_3 17 rfl rfl)
theorem dX2_all_88 : decode cX2_all 88 = .ok (.iconst 1, 1) := dk_4 (dk_at dksX2_all_3 19 rfl rfl)
theorem dX2_all_89 : decode cX2_all 89 = .ok (.iconst 2, 1) := dk_5 (dk_at dksX2_all_3 20 rfl rfl)
theorem dX2_all_90 : decode cX2_all 90 = .ok (.invokevirtual 129, 3) := dk_182 0 129 (dk_at dksX2_all_3 21 rfl rfl)
theorem dX2_all_93 : decode cX2_all 93 = .ok (.iastore, 1) := dk_79 (dk_at dksX2_all_4 0 rfl rfl)
theorem dX2_all_94 : decode cX2_all 94 = .ok (.aload_n 0, 1) := dk_42 (dk_at dksX2_all_4 1 rfl rfl)
theorem dX2_all_95 : decode cX2_all 95 = .ok (.bipush 59, 2) := dk_16 59 (dk_at dksX2_all_4 2 rfl rfl)
theorem dX2_all_97 : decode cX2_all 97 = .ok (.invokevirtual 143, 3) := dk_182 0 143 (dk_at dksX2_all_4 4 rfl rfl)
theorem dX2_all_100 : decode cX2_all 100 = .ok (.aload_n 0, 1) := dk_42 (dk_at dksX2_all_4 7 rfl rfl)
theorem dX2_all_101 : decode cX2_all 101 = .ok (.getfield 103, 3) := dk_180 0 103 (dk_at dksX2_all_4 8 rfl rfl)
theorem dX2_all_104 : decode cX2_all 104 = .ok (.iconst 1, 1) := dk_4 (dk_at dksX2_all_4 11 rfl rfl)
theorem dX2_all_105 : decode cX2_all 105 = .ok (.putfield 147, 3) := dk_181 0 147 (dk_at dksX2_all_4 12 rfl rfl)
theorem dX2_all_108 : decode cX2_all 108 = .ok (.aload_n 0, 1) := dk_42 (dk_at dksX2_all_4 15 rfl rfl)
theorem dX2_all_109 : decode cX2_all 109 = .ok (.invokevirtual 43, 3) := dk_182 0 43 (dk_at dksX2_all_4 16 rfl rfl)
theorem dX2_all_112 : decode cX2_all 112 = .ok (.iconst (-1), 1) := dk_2 (dk_at dksX2_all_4 19 rfl rfl)
theorem dX2_all_113 : decode cX2_all 113 = .ok (.if_icmp .eq 64, 3) := dk_159 0 64 (dk_at dksX2_all_4 20 rfl rfl)
theorem dX2_all_116 : decode cX2_all 116 = .ok (.aload_n 0, 1) := dk_42 (dk_at dksX2_all_4 23 rfl rfl)
theorem dX2_all_117 : decode cX2_all 117 = .ok (.aload_n 0, 1) := dk_42 (dk_at dksX2_all_5 0 rfl rfl)
theorem dX2_all_118 : decode cX2_all 118 = .ok (.getfield 103, 3) := dk_180 0 103 (dk_at dksX2_all_5 1 rfl rfl)
theorem dX2_all_121 : decode cX2_all 121 = .ok (.getfield 147, 3) := dk_180 0 147 (dk_at dksX2_all_5 4 rfl rfl)
theorem dX2_all_124 : decode cX2_all 124 = .ok (.bipush 60, 2) := dk_16 60 (dk_at dksX2_all_5 7 rfl rfl)
theorem dX2_all_126 : decode cX2_all 126 = .ok (.if_icmp .ne 7, 3) := dk_160 0 7 (dk_at dksX2_all_5 9 rfl rfl)
theorem dX2_all_129 : decode cX2_all 129 = .ok (.iconst 1, 1) := dk_4 (dk_at dksX2_all_5 12 rfl rfl)
theorem dX2_all_130 : decode cX2_all 130 = .ok (.goto 4, 3) := dk_167 0 4 (dk_at dksX2_all_5 13 rfl rfl)
theorem dX2_all_133 : decode cX2_all 133 = .ok (.iconst 0, 1) := dk_3 (dk_at dksX2_all_5 16 rfl rfl)
theorem dX2_all_134 : decode cX2_all 134 = .ok (.aload_n 0, 1) := dk_42 (dk_at dksX2_all_5 17 rfl rfl)
theorem dX2_all_135 : decode cX2_all 135 = .ok (.getfield 36, 3) := dk_180 0 36 (dk_at dksX2_all_5 18 rfl rfl)
theorem dX2_all_138 : decode cX2_all 138 = .ok (.invokevirtual 150, 3) := dk_182 0 150 (dk_at dksX2_all_5 21 rfl rfl)
theorem dX2_all_141 : decode cX2_all 141 = .ok (.aload_n 0, 1) := dk_42 (dk_at dksX2_all_6 0 rfl rfl)
theorem dX2_all_142 : decode cX2_all 142 = .ok (.getfield 103, 3) := dk_180 0 103 (dk_at dksX2_all_6 1 rfl rfl)
theorem dX2_all_145 : decode cX2_all 145 = .ok (.dup, 1) := dk_89 (dk_at dksX2_all_6 4 rfl rfl)
theorem dX2_all_146 : decode cX2_all 146 = .ok (.getfield 147, 3) := dk_180 0 147 (dk_at dksX2_all_6 5 rfl rfl)
theorem dX2_all_149 : decode cX2_all 149 = .ok (.iconst 1, 1) := dk_4 (dk_at dksX2_all_6 8 rfl rfl)
theorem dX2_all_150 : decode cX2_all 150 = .ok (.iadd, 1) := dk_96 (dk_at dksX2_all_6 9 rfl rfl)
theorem dX2_all_151 : decode cX2_all 151 = .ok (.putfield 147, 3) := dk_181 0 147 (dk_at dksX2_all_6 10 rfl rfl)
theorem dX2_all_154 : decode cX2_all 154 = .ok (.aload_n 0, 1) := dk_42 (dk_at dksX2_all_6 13 rfl rfl)
theorem dX2_all_155 : decode cX2_all 155 = .ok (.invokevirtual 70, 3) := dk_182 0 70 (dk_at dksX2_all_6 14 rfl rfl)
theorem dX2_all_158 : decode cX2_all 158 = .ok (.astore_n 2, 1) := dk_77 (dk_at dksX2_all_6 17 rfl rfl)
theorem dX2_all_159 : decode cX2_all 159 = .ok (.aload_n 0, 1) := dk_42 (dk_at dksX2_all_6 18 rfl rfl)
theorem dX2_all_160 : decode cX2_all 160 = .ok (.aload_n 2, 1) := dk_44 (dk_at dksX2_all_6 19 rfl rfl)
theorem dX2_all_161 : decode cX2_all 161 = .ok (.aload_n 0, 1) := dk_42 (dk_at dksX2_all_6 20 rfl rfl)
theorem dX2_all_162 : decode cX2_all 162 = .ok (.getfield 61, 3) := dk_180 0 61 (dk_at dksX2_all_6 21 rfl rfl)
theorem dX2_all_165 : decode cX2_all 165 = .ok (.invokevirtual 154, 3) := dk_182 0 154 (dk_at dksX2_all_7 0 rfl rfl)
theorem dX2_all_168 : decode cX2_all 168 = .ok (.aload_n 0, 1) := dk_42 (dk_at dksX2_all_7 3 rfl rfl)
theorem dX2_all_169 : decode cX2_all 169 = .ok (.bipush 59, 2) := dk_16 59 (dk_at dksX2_all_7 4 rfl rfl)
theorem dX2_all_171 : decode cX2_all 171 = .ok (.invokevirtual 143, 3) := dk_182 0 143 (dk_at dksX2_all_7 6 rfl rfl)
theorem dX2_all_174 : decode cX2_all 174 = .ok (.goto (-66), 3) := dk_167 255 190 (dk_at dksX2_all_7 9 rfl rfl)
theorem dX2_all_177 : decode cX2_all 177 = .ok (.aload_n 0, 1) := dk_42 (dk_at dksX2_all_7 12 rfl rfl)
theorem dX2_all_178 : decode cX2_all 178 = .ok (.getfield 103, 3) := dk_180 0 103 (dk_at dksX2_all_7 13 rfl rfl)
theorem dX2_all_181 : decode cX2_all 181 = .ok (.areturn, 1) := dk_176 (dk_at dksX2_all_7 16 rfl rfl)
abbrev cX2_word : ByteArray := prog_19_method_8_code
def yX2_word : MethodName := ⟨RX2, "word", "(Ljava/lang/String;)V"⟩
def dkwX2_word_0 : List UInt8 := [42, 182, 0, 70, 43, 182, 0, 74, 154, 0, 13, 42, 4, 42, 180, 0, 61, 182, 0, 47, 191, 177]
abbrev dktX2_word_0 : List UInt8 := dkwX2_word_0 ++ []
theorem dksX2_word_0 : cX2_word.data.toList.drop 0 = dktX2_word_0 := by decide +kernel
theorem dX2_word_0 : decode cX2_word 0 = .ok (.aload_n 0, 1) := dk_42 (dk_at dksX2_word_0 0 rfl rfl)
theorem dX2_word_1 : decode cX2_word 1 = .ok (.invokevirtual 70, 3) := dk_182 0 70 (dk_at dksX2_word_0 1 rfl rfl)
theorem dX2_word_4 : decode cX2_word 4 = .ok (.aload_n 1, 1) := dk_43 (dk_at dksX2_word_0 4 rfl rfl)
theorem dX2_word_5 : decode cX2_word 5 = .ok (.invokevirtual 74, 3) := dk_182 0 74 (dk_at dksX2_word_0 5 rfl rfl)
theorem dX2_word_8 : decode cX2_word 8 = .ok (.ifCond .ne 13, 3) := dk_154 0 13 (dk_at dksX2_word_0 8 rfl rfl)
theorem dX2_word_11 : decode cX2_word 11 = .ok (.aload_n 0, 1) := dk_42 (dk_at dksX2_word_0 11 rfl rfl)
theorem dX2_word_12 : decode cX2_word 12 = .ok (.iconst 1, 1) := dk_4 (dk_at dksX2_word_0 12 rfl rfl)
theorem dX2_word_13 : decode cX2_word 13 = .ok (.aload_n 0, 1) := dk_42 (dk_at dksX2_word_0 13 rfl rfl)
theorem dX2_word_14 : decode cX2_word 14 = .ok (.getfield 61, 3) := dk_180 0 61 (dk_at dksX2_word_0 14 rfl rfl)
theorem dX2_word_17 : decode cX2_word 17 = .ok (.invokevirtual 47, 3) := dk_182 0 47 (dk_at dksX2_word_0 17 rfl rfl)
theorem dX2_word_20 : decode cX2_word 20 = .ok (.athrow, 1) := dk_191 (dk_at dksX2_word_0 20 rfl rfl)
theorem dX2_word_21 : decode cX2_word 21 = .ok (.return_, 1) := dk_177 (dk_at dksX2_word_0 21 rfl rfl)
abbrev cX2_word_2 : ByteArray := prog_19_method_7_code
def yX2_word_2 : MethodName := ⟨RX2, "word", "()Ljava/lang/String;"⟩
def dkwX2_word_2_4 : List UInt8 := [180, 0, 32, 28, 51, 146, 85, 132, 2, 1, 167, 255, 227, 43, 184, 0, 64, 176]
abbrev dktX2_word_2_4 : List UInt8 := dkwX2_word_2_4 ++ []
def dkwX2_word_2_3 : List UInt8 := [180, 0, 61, 61, 28, 42, 180, 0, 36, 162, 0, 27, 43, 28, 42, 180, 0, 61, 100, 42, 180, 0, 3]
abbrev dktX2_word_2_3 : List UInt8 := dkwX2_word_2_3 ++ dktX2_word_2_4
def dkwX2_word_2_2 : List UInt8 := [180, 0, 36, 4, 96, 181, 0, 36, 167, 255, 232, 42, 180, 0, 36, 42, 180, 0, 61, 100, 188, 5, 76, 42]
abbrev dktX2_word_2_2 : List UInt8 := dkwX2_word_2_2 ++ dktX2_word_2_3
def dkwX2_word_2_1 : List UInt8 := [42, 42, 180, 0, 36, 181, 0, 61, 42, 42, 180, 0, 36, 182, 0, 39, 184, 0, 51, 153, 0, 16, 42, 89]
abbrev dktX2_word_2_1 : List UInt8 := dkwX2_word_2_1 ++ dktX2_word_2_2
def dkwX2_word_2_0 : List UInt8 := [42, 182, 0, 43, 184, 0, 51, 154, 0, 13, 42, 4, 42, 180, 0, 36, 182, 0, 47, 191, 42, 182, 0, 58]
abbrev dktX2_word_2_0 : List UInt8 := dkwX2_word_2_0 ++ dktX2_word_2_1
theorem dksX2_word_2_0 : cX2_word_2.data.toList.drop 0 = dktX2_word_2_0 := by decide +kernel
theorem dksX2_word_2_1 : cX2_word_2.data.toList.drop 24 = dktX2_word_2_1 := dk_seg dksX2_word_2_0 24 rfl rfl
theorem dksX2_word_2_2 : cX2_word_2.data.toList.drop 48 = dktX2_word_2_2 := dk_seg dksX2_word_2_1 24 rfl rfl
theorem dksX2_word_2_3 : cX2_word_2.data.toList.drop 72 = dktX2_word_2_3 := dk_seg dksX2_word_2_2 24 rfl rfl
theorem dksX2_word_2_4 : cX2_word_2.data.toList.drop 95 = dktX2_word_2_4 := dk_seg dksX2_word_2_3 23 rfl rfl
theorem dX2_word_2_0 : decode cX2_word_2 0 = .ok (.aload_n 0, 1) := dk_42 (dk_at dksX2_word_2_0 0 rfl rfl)
theorem dX2_word_2_1 : decode cX2_word_2 1 = .ok (.invokevirtual 43, 3) := dk_182 0 43 (dk_at dksX2_word_2_0 1 rfl rfl)
theorem dX2_word_2_4 : decode cX2_word_2 4 = .ok (.invokestatic 51, 3) := dk_184 0 51 (dk_at dksX2_word_2_0 4 rfl rfl)
theorem dX2_word_2_7 : decode cX2_word_2 7 = .ok (.ifCond .ne 13, 3) := dk_154 0 13 (dk_at dksX2_word_2_0 7 rfl rfl)
theorem dX2_word_2_10 : decode cX2_word_2 10 = .ok (.aload_n 0, 1) := dk_42 (dk_at dksX2_word_2_0 10 rfl rfl)
theorem dX2_word_2_11 : decode cX2_word_2 11 = .ok (.iconst 1, 1) := dk_4 (dk_at dksX2_word_2_0 11 rfl rfl)
theorem dX2_word_2_12 : decode cX2_word_2 12 = .ok (.aload_n 0, 1) := dk_42 (dk_at dksX2_word_2_0 12 rfl rfl)
theorem dX2_word_2_13 : decode cX2_word_2 13 = .ok (.getfield 36, 3) := dk_180 0 36 (dk_at dksX2_word_2_0 13 rfl rfl)
theorem dX2_word_2_16 : decode cX2_word_2 16 = .ok (.invokevirtual 47, 3) := dk_182 0 47 (dk_at dksX2_word_2_0 16 rfl rfl)
theorem dX2_word_2_19 : decode cX2_word_2 19 = .ok (.athrow, 1) := dk_191 (dk_at dksX2_word_2_0 19 rfl rfl)
theorem dX2_word_2_20 : decode cX2_word_2 20 = .ok (.aload_n 0, 1) := dk_42 (dk_at dksX2_word_2_0 20 rfl rfl)
theorem dX2_word_2_21 : decode cX2_word_2 21 = .ok (.invokevirtual 58, 3) := dk_182 0 58 (dk_at dksX2_word_2_0 21 rfl rfl)
theorem dX2_word_2_24 : decode cX2_word_2 24 = .ok (.aload_n 0, 1) := dk_42 (dk_at dksX2_word_2_1 0 rfl rfl)
theorem dX2_word_2_25 : decode cX2_word_2 25 = .ok (.aload_n 0, 1) := dk_42 (dk_at dksX2_word_2_1 1 rfl rfl)
theorem dX2_word_2_26 : decode cX2_word_2 26 = .ok (.getfield 36, 3) := dk_180 0 36 (dk_at dksX2_word_2_1 2 rfl rfl)
theorem dX2_word_2_29 : decode cX2_word_2 29 = .ok (.putfield 61, 3) := dk_181 0 61 (dk_at dksX2_word_2_1 5 rfl rfl)
theorem dX2_word_2_32 : decode cX2_word_2 32 = .ok (.aload_n 0, 1) := dk_42 (dk_at dksX2_word_2_1 8 rfl rfl)
theorem dX2_word_2_33 : decode cX2_word_2 33 = .ok (.aload_n 0, 1) := dk_42 (dk_at dksX2_word_2_1 9 rfl rfl)
theorem dX2_word_2_34 : decode cX2_word_2 34 = .ok (.getfield 36, 3) := dk_180 0 36 (dk_at dksX2_word_2_1 10 rfl rfl)
theorem dX2_word_2_37 : decode cX2_word_2 37 = .ok (.invokevirtual 39, 3) := dk_182 0 39 (dk_at dksX2_word_2_1 13 rfl rfl)
theorem dX2_word_2_40 : decode cX2_word_2 40 = .ok (.invokestatic 51, 3) := dk_184 0 51 (dk_at dksX2_word_2_1 16 rfl rfl)
theorem dX2_word_2_43 : decode cX2_word_2 43 = .ok (.ifCond .eq 16, 3) := dk_153 0 16 (dk_at dksX2_word_2_1 19 rfl rfl)
theorem dX2_word_2_46 : decode cX2_word_2 46 = .ok (.aload_n 0, 1) := dk_42 (dk_at dksX2_word_2_1 22 rfl rfl)
theorem dX2_word_2_47 : decode cX2_word_2 47 = .ok (.dup, 1) := dk_89 (dk_at dksX2_word_2_1 23 rfl rfl)
theorem dX2_word_2_48 : decode cX2_word_2 48 = .ok (.getfield 36, 3) := dk_180 0 36 (dk_at dksX2_word_2_2 0 rfl rfl)
theorem dX2_word_2_51 : decode cX2_word_2 51 = .ok (.iconst 1, 1) := dk_4 (dk_at dksX2_word_2_2 3 rfl rfl)
theorem dX2_word_2_52 : decode cX2_word_2 52 = .ok (.iadd, 1) := dk_96 (dk_at dksX2_word_2_2 4 rfl rfl)
theorem dX2_word_2_53 : decode cX2_word_2 53 = .ok (.putfield 36, 3) := dk_181 0 36 (dk_at dksX2_word_2_2 5 rfl rfl)
theorem dX2_word_2_56 : decode cX2_word_2 56 = .ok (.goto (-24), 3) := dk_167 255 232 (dk_at dksX2_word_2_2 8 rfl rfl)
theorem dX2_word_2_59 : decode cX2_word_2 59 = .ok (.aload_n 0, 1) := dk_42 (dk_at dksX2_word_2_2 11 rfl rfl)
theorem dX2_word_2_60 : decode cX2_word_2 60 = .ok (.getfield 36, 3) := dk_180 0 36 (dk_at dksX2_word_2_2 12 rfl rfl)
theorem dX2_word_2_63 : decode cX2_word_2 63 = .ok (.aload_n 0, 1) := dk_42 (dk_at dksX2_word_2_2 15 rfl rfl)
theorem dX2_word_2_64 : decode cX2_word_2 64 = .ok (.getfield 61, 3) := dk_180 0 61 (dk_at dksX2_word_2_2 16 rfl rfl)
theorem dX2_word_2_67 : decode cX2_word_2 67 = .ok (.isub, 1) := dk_100 (dk_at dksX2_word_2_2 19 rfl rfl)
theorem dX2_word_2_68 : decode cX2_word_2 68 = .ok (.newarray .char, 2) := dk_188_5 (dk_at dksX2_word_2_2 20 rfl rfl)
theorem dX2_word_2_70 : decode cX2_word_2 70 = .ok (.astore_n 1, 1) := dk_76 (dk_at dksX2_word_2_2 22 rfl rfl)
theorem dX2_word_2_71 : decode cX2_word_2 71 = .ok (.aload_n 0, 1) := dk_42 (dk_at dksX2_word_2_2 23 rfl rfl)
theorem dX2_word_2_72 : decode cX2_word_2 72 = .ok (.getfield 61, 3) := dk_180 0 61 (dk_at dksX2_word_2_3 0 rfl rfl)
theorem dX2_word_2_75 : decode cX2_word_2 75 = .ok (.istore_n 2, 1) := dk_61 (dk_at dksX2_word_2_3 3 rfl rfl)
theorem dX2_word_2_76 : decode cX2_word_2 76 = .ok (.iload_n 2, 1) := dk_28 (dk_at dksX2_word_2_3 4 rfl rfl)
theorem dX2_word_2_77 : decode cX2_word_2 77 = .ok (.aload_n 0, 1) := dk_42 (dk_at dksX2_word_2_3 5 rfl rfl)
theorem dX2_word_2_78 : decode cX2_word_2 78 = .ok (.getfield 36, 3) := dk_180 0 36 (dk_at dksX2_word_2_3 6 rfl rfl)
theorem dX2_word_2_81 : decode cX2_word_2 81 = .ok (.if_icmp .ge 27, 3) := dk_162 0 27 (dk_at dksX2_word_2_3 9 rfl rfl)
theorem dX2_word_2_84 : decode cX2_word_2 84 = .ok (.aload_n 1, 1) := dk_43 (dk_at dksX2_word_2_3 12 rfl rfl)
theorem dX2_word_2_85 : decode cX2_word_2 85 = .ok (.iload_n 2, 1) := dk_28 (dk_at dksX2_word_2_3 13 rfl rfl)
theorem dX2_word_2_86 : decode cX2_word_2 86 = .ok (.aload_n 0, 1) := dk_42 (dk_at dksX2_word_2_3 14 rfl rfl)
theorem dX2_word_2_87 : decode cX2_word_2 87 = .ok (.getfield 61, 3) := dk_180 0 61 (dk_at dksX2_word_2_3 15 rfl rfl)
theorem dX2_word_2_90 : decode cX2_word_2 90 = .ok (.isub, 1) := dk_100 (dk_at dksX2_word_2_3 18 rfl rfl)
theorem dX2_word_2_91 : decode cX2_word_2 91 = .ok (.aload_n 0, 1) := dk_42 (dk_at dksX2_word_2_3 19 rfl rfl)
theorem dX2_word_2_92 : decode cX2_word_2 92 = .ok (.getfield 3, 3) := dk_180 0 3 (dk_at dksX2_word_2_3 20 rfl rfl)
theorem dX2_word_2_95 : decode cX2_word_2 95 = .ok (.getfield 32, 3) := dk_180 0 32 (dk_at dksX2_word_2_4 0 rfl rfl)
theorem dX2_word_2_98 : decode cX2_word_2 98 = .ok (.iload_n 2, 1) := dk_28 (dk_at dksX2_word_2_4 3 rfl rfl)
theorem dX2_word_2_99 : decode cX2_word_2 99 = .ok (.baload, 1) := dk_51 (dk_at dksX2_word_2_4 4 rfl rfl)
theorem dX2_word_2_100 : decode cX2_word_2 100 = .ok (.i2c, 1) := dk_146 (dk_at dksX2_word_2_4 5 rfl rfl)
theorem dX2_word_2_101 : decode cX2_word_2 101 = .ok (.castore, 1) := dk_85 (dk_at dksX2_word_2_4 6 rfl rfl)
theorem dX2_word_2_102 : decode cX2_word_2 102 = .ok (.iinc 2 1, 3) := dk_132 2 1 (dk_at dksX2_word_2_4 7 rfl rfl)
theorem dX2_word_2_105 : decode cX2_word_2 105 = .ok (.goto (-29), 3) := dk_167 255 227 (dk_at dksX2_word_2_4 10 rfl rfl)
theorem dX2_word_2_108 : decode cX2_word_2 108 = .ok (.aload_n 1, 1) := dk_43 (dk_at dksX2_word_2_4 13 rfl rfl)
theorem dX2_word_2_109 : decode cX2_word_2 109 = .ok (.invokestatic 64, 3) := dk_184 0 64 (dk_at dksX2_word_2_4 14 rfl rfl)
theorem dX2_word_2_112 : decode cX2_word_2 112 = .ok (.areturn, 1) := dk_176 (dk_at dksX2_word_2_4 17 rfl rfl)
abbrev cX2_here : ByteArray := prog_19_method_4_code
def yX2_here : MethodName := ⟨RX2, "here", "()I"⟩
def dkwX2_here_2 : List UInt8 := [172]
abbrev dktX2_here_2 : List UInt8 := dkwX2_here_2 ++ []
def dkwX2_here_1 : List UInt8 := [160, 0, 16, 42, 89, 180, 0, 36, 4, 96, 181, 0, 36, 167, 255, 220, 42, 42, 180, 0, 36, 182, 0, 39]
abbrev dktX2_here_1 : List UInt8 := dkwX2_here_1 ++ dktX2_here_2
def dkwX2_here_0 : List UInt8 := [42, 42, 180, 0, 36, 182, 0, 39, 16, 32, 159, 0, 16, 42, 42, 180, 0, 36, 182, 0, 39, 16, 10]
abbrev dktX2_here_0 : List UInt8 := dkwX2_here_0 ++ dktX2_here_1
theorem dksX2_here_0 : cX2_here.data.toList.drop 0 = dktX2_here_0 := by decide +kernel
theorem dksX2_here_1 : cX2_here.data.toList.drop 23 = dktX2_here_1 := dk_seg dksX2_here_0 23 rfl rfl
theorem dksX2_here_2 : cX2_here.data.toList.drop 47 = dktX2_here_2 := dk_seg dksX2_here_1 24 rfl rfl
theorem dX2_here_0 : decode cX2_here 0 = .ok (.aload_n 0, 1) := dk_42 (dk_at dksX2_here_0 0 rfl rfl)
theorem dX2_here_1 : decode cX2_here 1 = .ok (.aload_n 0, 1) := dk_42 (dk_at dksX2_here_0 1 rfl rfl)
theorem dX2_here_2 : decode cX2_here 2 = .ok (.getfield 36, 3) := dk_180 0 36 (dk_at dksX2_here_0 2 rfl rfl)
theorem dX2_here_5 : decode cX2_here 5 = .ok (.invokevirtual 39, 3) := dk_182 0 39 (dk_at dksX2_here_0 5 rfl rfl)
theorem dX2_here_8 : decode cX2_here 8 = .ok (.bipush 32, 2) := dk_16 32 (dk_at dksX2_here_0 8 rfl rfl)
theorem dX2_here_10 : decode cX2_here 10 = .ok (.if_icmp .eq 16, 3) := dk_159 0 16 (dk_at dksX2_here_0 10 rfl rfl)
theorem dX2_here_13 : decode cX2_here 13 = .ok (.aload_n 0, 1) := dk_42 (dk_at dksX2_here_0 13 rfl rfl)
theorem dX2_here_14 : decode cX2_here 14 = .ok (.aload_n 0, 1) := dk_42 (dk_at dksX2_here_0 14 rfl rfl)
theorem dX2_here_15 : decode cX2_here 15 = .ok (.getfield 36, 3) := dk_180 0 36 (dk_at dksX2_here_0 15 rfl rfl)
theorem dX2_here_18 : decode cX2_here 18 = .ok (.invokevirtual 39, 3) := dk_182 0 39 (dk_at dksX2_here_0 18 rfl rfl)
theorem dX2_here_21 : decode cX2_here 21 = .ok (.bipush 10, 2) := dk_16 10 (dk_at dksX2_here_0 21 rfl rfl)
theorem dX2_here_23 : decode cX2_here 23 = .ok (.if_icmp .ne 16, 3) := dk_160 0 16 (dk_at dksX2_here_1 0 rfl rfl)
theorem dX2_here_26 : decode cX2_here 26 = .ok (.aload_n 0, 1) := dk_42 (dk_at dksX2_here_1 3 rfl rfl)
theorem dX2_here_27 : decode cX2_here 27 = .ok (.dup, 1) := dk_89 (dk_at dksX2_here_1 4 rfl rfl)
theorem dX2_here_28 : decode cX2_here 28 = .ok (.getfield 36, 3) := dk_180 0 36 (dk_at dksX2_here_1 5 rfl rfl)
theorem dX2_here_31 : decode cX2_here 31 = .ok (.iconst 1, 1) := dk_4 (dk_at dksX2_here_1 8 rfl rfl)
theorem dX2_here_32 : decode cX2_here 32 = .ok (.iadd, 1) := dk_96 (dk_at dksX2_here_1 9 rfl rfl)
theorem dX2_here_33 : decode cX2_here 33 = .ok (.putfield 36, 3) := dk_181 0 36 (dk_at dksX2_here_1 10 rfl rfl)
theorem dX2_here_36 : decode cX2_here 36 = .ok (.goto (-36), 3) := dk_167 255 220 (dk_at dksX2_here_1 13 rfl rfl)
theorem dX2_here_39 : decode cX2_here 39 = .ok (.aload_n 0, 1) := dk_42 (dk_at dksX2_here_1 16 rfl rfl)
theorem dX2_here_40 : decode cX2_here 40 = .ok (.aload_n 0, 1) := dk_42 (dk_at dksX2_here_1 17 rfl rfl)
theorem dX2_here_41 : decode cX2_here 41 = .ok (.getfield 36, 3) := dk_180 0 36 (dk_at dksX2_here_1 18 rfl rfl)
theorem dX2_here_44 : decode cX2_here 44 = .ok (.invokevirtual 39, 3) := dk_182 0 39 (dk_at dksX2_here_1 21 rfl rfl)
theorem dX2_here_47 : decode cX2_here 47 = .ok (.ireturn, 1) := dk_172 (dk_at dksX2_here_2 0 rfl rfl)
abbrev cX2_byteAt : ByteArray := prog_19_method_3_code
def yX2_byteAt : MethodName := ⟨RX2, "byteAt", "(I)I"⟩
def dkwX2_byteAt_1 : List UInt8 := [126, 167, 0, 4, 2, 172]
abbrev dktX2_byteAt_1 : List UInt8 := dkwX2_byteAt_1 ++ []
def dkwX2_byteAt_0 : List UInt8 := [27, 155, 0, 27, 27, 42, 180, 0, 29, 162, 0, 19, 42, 180, 0, 3, 180, 0, 32, 27, 51, 17, 0, 255]
abbrev dktX2_byteAt_0 : List UInt8 := dkwX2_byteAt_0 ++ dktX2_byteAt_1
theorem dksX2_byteAt_0 : cX2_byteAt.data.toList.drop 0 = dktX2_byteAt_0 := by decide +kernel
theorem dksX2_byteAt_1 : cX2_byteAt.data.toList.drop 24 = dktX2_byteAt_1 := dk_seg dksX2_byteAt_0 24 rfl rfl
theorem dX2_byteAt_0 : decode cX2_byteAt 0 = .ok (.iload_n 1, 1) := dk_27 (dk_at dksX2_byteAt_0 0 rfl rfl)
theorem dX2_byteAt_1 : decode cX2_byteAt 1 = .ok (.ifCond .lt 27, 3) := dk_155 0 27 (dk_at dksX2_byteAt_0 1 rfl rfl)
theorem dX2_byteAt_4 : decode cX2_byteAt 4 = .ok (.iload_n 1, 1) := dk_27 (dk_at dksX2_byteAt_0 4 rfl rfl)
theorem dX2_byteAt_5 : decode cX2_byteAt 5 = .ok (.aload_n 0, 1) := dk_42 (dk_at dksX2_byteAt_0 5 rfl rfl)
theorem dX2_byteAt_6 : decode cX2_byteAt 6 = .ok (.getfield 29, 3) := dk_180 0 29 (dk_at dksX2_byteAt_0 6 rfl rfl)
theorem dX2_byteAt_9 : decode cX2_byteAt 9 = .ok (.if_icmp .ge 19, 3) := dk_162 0 19 (dk_at dksX2_byteAt_0 9 rfl rfl)
theorem dX2_byteAt_12 : decode cX2_byteAt 12 = .ok (.aload_n 0, 1) := dk_42 (dk_at dksX2_byteAt_0 12 rfl rfl)
theorem dX2_byteAt_13 : decode cX2_byteAt 13 = .ok (.getfield 3, 3) := dk_180 0 3 (dk_at dksX2_byteAt_0 13 rfl rfl)
theorem dX2_byteAt_16 : decode cX2_byteAt 16 = .ok (.getfield 32, 3) := dk_180 0 32 (dk_at dksX2_byteAt_0 16 rfl rfl)
theorem dX2_byteAt_19 : decode cX2_byteAt 19 = .ok (.iload_n 1, 1) := dk_27 (dk_at dksX2_byteAt_0 19 rfl rfl)
theorem dX2_byteAt_20 : decode cX2_byteAt 20 = .ok (.baload, 1) := dk_51 (dk_at dksX2_byteAt_0 20 rfl rfl)
theorem dX2_byteAt_21 : decode cX2_byteAt 21 = .ok (.sipush 255, 3) := dk_17 0 255 (dk_at dksX2_byteAt_0 21 rfl rfl)
theorem dX2_byteAt_24 : decode cX2_byteAt 24 = .ok (.iand, 1) := dk_126 (dk_at dksX2_byteAt_1 0 rfl rfl)
theorem dX2_byteAt_25 : decode cX2_byteAt 25 = .ok (.goto 4, 3) := dk_167 0 4 (dk_at dksX2_byteAt_1 1 rfl rfl)
theorem dX2_byteAt_28 : decode cX2_byteAt 28 = .ok (.iconst (-1), 1) := dk_2 (dk_at dksX2_byteAt_1 4 rfl rfl)
theorem dX2_byteAt_29 : decode cX2_byteAt 29 = .ok (.ireturn, 1) := dk_172 (dk_at dksX2_byteAt_1 5 rfl rfl)
abbrev cX2_wrong : ByteArray := prog_19_method_2_code
def yX2_wrong : MethodName := ⟨RX2, "wrong", "(II)LGardenChess$Fault;"⟩
def dkwX2_wrong_0 : List UInt8 := [42, 180, 0, 18, 27, 181, 0, 22, 42, 180, 0, 18, 28, 181, 0, 26, 42, 180, 0, 18, 176]
abbrev dktX2_wrong_0 : List UInt8 := dkwX2_wrong_0 ++ []
theorem dksX2_wrong_0 : cX2_wrong.data.toList.drop 0 = dktX2_wrong_0 := by decide +kernel
theorem dX2_wrong_0 : decode cX2_wrong 0 = .ok (.aload_n 0, 1) := dk_42 (dk_at dksX2_wrong_0 0 rfl rfl)
theorem dX2_wrong_1 : decode cX2_wrong 1 = .ok (.getfield 18, 3) := dk_180 0 18 (dk_at dksX2_wrong_0 1 rfl rfl)
theorem dX2_wrong_4 : decode cX2_wrong 4 = .ok (.iload_n 1, 1) := dk_27 (dk_at dksX2_wrong_0 4 rfl rfl)
theorem dX2_wrong_5 : decode cX2_wrong 5 = .ok (.putfield 22, 3) := dk_181 0 22 (dk_at dksX2_wrong_0 5 rfl rfl)
theorem dX2_wrong_8 : decode cX2_wrong 8 = .ok (.aload_n 0, 1) := dk_42 (dk_at dksX2_wrong_0 8 rfl rfl)
theorem dX2_wrong_9 : decode cX2_wrong 9 = .ok (.getfield 18, 3) := dk_180 0 18 (dk_at dksX2_wrong_0 9 rfl rfl)
theorem dX2_wrong_12 : decode cX2_wrong 12 = .ok (.iload_n 2, 1) := dk_28 (dk_at dksX2_wrong_0 12 rfl rfl)
theorem dX2_wrong_13 : decode cX2_wrong 13 = .ok (.putfield 26, 3) := dk_181 0 26 (dk_at dksX2_wrong_0 13 rfl rfl)
theorem dX2_wrong_16 : decode cX2_wrong 16 = .ok (.aload_n 0, 1) := dk_42 (dk_at dksX2_wrong_0 16 rfl rfl)
theorem dX2_wrong_17 : decode cX2_wrong 17 = .ok (.getfield 18, 3) := dk_180 0 18 (dk_at dksX2_wrong_0 17 rfl rfl)
theorem dX2_wrong_20 : decode cX2_wrong 20 = .ok (.areturn, 1) := dk_176 (dk_at dksX2_wrong_0 20 rfl rfl)
abbrev cX2_parted : ByteArray := prog_19_method_6_code
def yX2_parted : MethodName := ⟨RX2, "parted", "()V"⟩
def dkwX2_parted_1 : List UInt8 := [182, 0, 39, 184, 0, 55, 153, 0, 13, 42, 4, 42, 180, 0, 36, 182, 0, 47, 191, 177]
abbrev dktX2_parted_1 : List UInt8 := dkwX2_parted_1 ++ []
def dkwX2_parted_0 : List UInt8 := [42, 42, 180, 0, 36, 4, 100, 182, 0, 39, 184, 0, 51, 154, 0, 19, 42, 42, 180, 0, 36, 4, 100]
abbrev dktX2_parted_0 : List UInt8 := dkwX2_parted_0 ++ dktX2_parted_1
theorem dksX2_parted_0 : cX2_parted.data.toList.drop 0 = dktX2_parted_0 := by decide +kernel
theorem dksX2_parted_1 : cX2_parted.data.toList.drop 23 = dktX2_parted_1 := dk_seg dksX2_parted_0 23 rfl rfl
theorem dX2_parted_0 : decode cX2_parted 0 = .ok (.aload_n 0, 1) := dk_42 (dk_at dksX2_parted_0 0 rfl rfl)
theorem dX2_parted_1 : decode cX2_parted 1 = .ok (.aload_n 0, 1) := dk_42 (dk_at dksX2_parted_0 1 rfl rfl)
theorem dX2_parted_2 : decode cX2_parted 2 = .ok (.getfield 36, 3) := dk_180 0 36 (dk_at dksX2_parted_0 2 rfl rfl)
theorem dX2_parted_5 : decode cX2_parted 5 = .ok (.iconst 1, 1) := dk_4 (dk_at dksX2_parted_0 5 rfl rfl)
theorem dX2_parted_6 : decode cX2_parted 6 = .ok (.isub, 1) := dk_100 (dk_at dksX2_parted_0 6 rfl rfl)
theorem dX2_parted_7 : decode cX2_parted 7 = .ok (.invokevirtual 39, 3) := dk_182 0 39 (dk_at dksX2_parted_0 7 rfl rfl)
theorem dX2_parted_10 : decode cX2_parted 10 = .ok (.invokestatic 51, 3) := dk_184 0 51 (dk_at dksX2_parted_0 10 rfl rfl)
theorem dX2_parted_13 : decode cX2_parted 13 = .ok (.ifCond .ne 19, 3) := dk_154 0 19 (dk_at dksX2_parted_0 13 rfl rfl)
theorem dX2_parted_16 : decode cX2_parted 16 = .ok (.aload_n 0, 1) := dk_42 (dk_at dksX2_parted_0 16 rfl rfl)
theorem dX2_parted_17 : decode cX2_parted 17 = .ok (.aload_n 0, 1) := dk_42 (dk_at dksX2_parted_0 17 rfl rfl)
theorem dX2_parted_18 : decode cX2_parted 18 = .ok (.getfield 36, 3) := dk_180 0 36 (dk_at dksX2_parted_0 18 rfl rfl)
theorem dX2_parted_21 : decode cX2_parted 21 = .ok (.iconst 1, 1) := dk_4 (dk_at dksX2_parted_0 21 rfl rfl)
theorem dX2_parted_22 : decode cX2_parted 22 = .ok (.isub, 1) := dk_100 (dk_at dksX2_parted_0 22 rfl rfl)
theorem dX2_parted_23 : decode cX2_parted 23 = .ok (.invokevirtual 39, 3) := dk_182 0 39 (dk_at dksX2_parted_1 0 rfl rfl)
theorem dX2_parted_26 : decode cX2_parted 26 = .ok (.invokestatic 55, 3) := dk_184 0 55 (dk_at dksX2_parted_1 3 rfl rfl)
theorem dX2_parted_29 : decode cX2_parted 29 = .ok (.ifCond .eq 13, 3) := dk_153 0 13 (dk_at dksX2_parted_1 6 rfl rfl)
theorem dX2_parted_32 : decode cX2_parted 32 = .ok (.aload_n 0, 1) := dk_42 (dk_at dksX2_parted_1 9 rfl rfl)
theorem dX2_parted_33 : decode cX2_parted 33 = .ok (.iconst 1, 1) := dk_4 (dk_at dksX2_parted_1 10 rfl rfl)
theorem dX2_parted_34 : decode cX2_parted 34 = .ok (.aload_n 0, 1) := dk_42 (dk_at dksX2_parted_1 11 rfl rfl)
theorem dX2_parted_35 : decode cX2_parted 35 = .ok (.getfield 36, 3) := dk_180 0 36 (dk_at dksX2_parted_1 12 rfl rfl)
theorem dX2_parted_38 : decode cX2_parted 38 = .ok (.invokevirtual 47, 3) := dk_182 0 47 (dk_at dksX2_parted_1 15 rfl rfl)
theorem dX2_parted_41 : decode cX2_parted 41 = .ok (.athrow, 1) := dk_191 (dk_at dksX2_parted_1 18 rfl rfl)
theorem dX2_parted_42 : decode cX2_parted 42 = .ok (.return_, 1) := dk_177 (dk_at dksX2_parted_1 19 rfl rfl)
abbrev cX2_number : ByteArray := prog_19_method_11_code
def yX2_number : MethodName := ⟨RX2, "number", "(II)I"⟩
def dkwX2_number_5 : List UInt8 := [191, 29, 172]
abbrev dktX2_number_5 : List UInt8 := dkwX2_number_5 ++ []
def dkwX2_number_4 : List UInt8 := [181, 0, 36, 167, 255, 192, 29, 27, 28, 184, 0, 89, 154, 0, 13, 42, 5, 42, 180, 0, 61, 182, 0, 47]
abbrev dktX2_number_4 : List UInt8 := dkwX2_number_4 ++ dktX2_number_5
def dkwX2_number_3 : List UInt8 := [16, 10, 29, 104, 42, 42, 180, 0, 36, 182, 0, 39, 96, 16, 48, 100, 62, 42, 89, 180, 0, 36, 4, 96]
abbrev dktX2_number_3 : List UInt8 := dkwX2_number_3 ++ dktX2_number_4
def dkwX2_number_2 : List UInt8 := [42, 180, 0, 36, 42, 180, 0, 61, 100, 7, 160, 0, 13, 42, 4, 42, 180, 0, 36, 182, 0, 47, 191]
abbrev dktX2_number_2 : List UInt8 := dkwX2_number_2 ++ dktX2_number_3
def dkwX2_number_1 : List UInt8 := [42, 42, 180, 0, 36, 181, 0, 61, 3, 62, 42, 42, 180, 0, 36, 182, 0, 39, 184, 0, 55, 153, 0, 56]
abbrev dktX2_number_1 : List UInt8 := dkwX2_number_1 ++ dktX2_number_2
def dkwX2_number_0 : List UInt8 := [42, 182, 0, 43, 184, 0, 55, 154, 0, 13, 42, 4, 42, 180, 0, 36, 182, 0, 47, 191, 42, 182, 0, 58]
abbrev dktX2_number_0 : List UInt8 := dkwX2_number_0 ++ dktX2_number_1
theorem dksX2_number_0 : cX2_number.data.toList.drop 0 = dktX2_number_0 := by decide +kernel
theorem dksX2_number_1 : cX2_number.data.toList.drop 24 = dktX2_number_1 := dk_seg dksX2_number_0 24 rfl rfl
theorem dksX2_number_2 : cX2_number.data.toList.drop 48 = dktX2_number_2 := dk_seg dksX2_number_1 24 rfl rfl
theorem dksX2_number_3 : cX2_number.data.toList.drop 71 = dktX2_number_3 := dk_seg dksX2_number_2 23 rfl rfl
theorem dksX2_number_4 : cX2_number.data.toList.drop 95 = dktX2_number_4 := dk_seg dksX2_number_3 24 rfl rfl
theorem dksX2_number_5 : cX2_number.data.toList.drop 119 = dktX2_number_5 := dk_seg dksX2_number_4 24 rfl rfl
theorem dX2_number_0 : decode cX2_number 0 = .ok (.aload_n 0, 1) := dk_42 (dk_at dksX2_number_0 0 rfl rfl)
theorem dX2_number_1 : decode cX2_number 1 = .ok (.invokevirtual 43, 3) := dk_182 0 43 (dk_at dksX2_number_0 1 rfl rfl)
theorem dX2_number_4 : decode cX2_number 4 = .ok (.invokestatic 55, 3) := dk_184 0 55 (dk_at dksX2_number_0 4 rfl rfl)
theorem dX2_number_7 : decode cX2_number 7 = .ok (.ifCond .ne 13, 3) := dk_154 0 13 (dk_at dksX2_number_0 7 rfl rfl)
theorem dX2_number_10 : decode cX2_number 10 = .ok (.aload_n 0, 1) := dk_42 (dk_at dksX2_number_0 10 rfl rfl)
theorem dX2_number_11 : decode cX2_number 11 = .ok (.iconst 1, 1) := dk_4 (dk_at dksX2_number_0 11 rfl rfl)
theorem dX2_number_12 : decode cX2_number 12 = .ok (.aload_n 0, 1) := dk_42 (dk_at dksX2_number_0 12 rfl rfl)
theorem dX2_number_13 : decode cX2_number 13 = .ok (.getfield 36, 3) := dk_180 0 36 (dk_at dksX2_number_0 13 rfl rfl)
theorem dX2_number_16 : decode cX2_number 16 = .ok (.invokevirtual 47, 3) := dk_182 0 47 (dk_at dksX2_number_0 16 rfl rfl)
theorem dX2_number_19 : decode cX2_number 19 = .ok (.athrow, 1) := dk_191 (dk_at dksX2_number_0 19 rfl rfl)
theorem dX2_number_20 : decode cX2_number 20 = .ok (.aload_n 0, 1) := dk_42 (dk_at dksX2_number_0 20 rfl rfl)
theorem dX2_number_21 : decode cX2_number 21 = .ok (.invokevirtual 58, 3) := dk_182 0 58 (dk_at dksX2_number_0 21 rfl rfl)
theorem dX2_number_24 : decode cX2_number 24 = .ok (.aload_n 0, 1) := dk_42 (dk_at dksX2_number_1 0 rfl rfl)
theorem dX2_number_25 : decode cX2_number 25 = .ok (.aload_n 0, 1) := dk_42 (dk_at dksX2_number_1 1 rfl rfl)
theorem dX2_number_26 : decode cX2_number 26 = .ok (.getfield 36, 3) := dk_180 0 36 (dk_at dksX2_number_1 2 rfl rfl)
theorem dX2_number_29 : decode cX2_number 29 = .ok (.putfield 61, 3) := dk_181 0 61 (dk_at dksX2_number_1 5 rfl rfl)
theorem dX2_number_32 : decode cX2_number 32 = .ok (.iconst 0, 1) := dk_3 (dk_at dksX2_number_1 8 rfl rfl)
theorem dX2_number_33 : decode cX2_number 33 = .ok (.istore_n 3, 1) := dk_62 (dk_at dksX2_number_1 9 rfl rfl)
theorem dX2_number_34 : decode cX2_number 34 = .ok (.aload_n 0, 1) := dk_42 (dk_at dksX2_number_1 10 rfl rfl)
theorem dX2_number_35 : decode cX2_number 35 = .ok (.aload_n 0, 1) := dk_42 (dk_at dksX2_number_1 11 rfl rfl)
theorem dX2_number_36 : decode cX2_number 36 = .ok (.getfield 36, 3) := dk_180 0 36 (dk_at dksX2_number_1 12 rfl rfl)
theorem dX2_number_39 : decode cX2_number 39 = .ok (.invokevirtual 39, 3) := dk_182 0 39 (dk_at dksX2_number_1 15 rfl rfl)
theorem dX2_number_42 : decode cX2_number 42 = .ok (.invokestatic 55, 3) := dk_184 0 55 (dk_at dksX2_number_1 18 rfl rfl)
theorem dX2_number_45 : decode cX2_number 45 = .ok (.ifCond .eq 56, 3) := dk_153 0 56 (dk_at dksX2_number_1 21 rfl rfl)
theorem dX2_number_48 : decode cX2_number 48 = .ok (.aload_n 0, 1) := dk_42 (dk_at dksX2_number_2 0 rfl rfl)
theorem dX2_number_49 : decode cX2_number 49 = .ok (.getfield 36, 3) := dk_180 0 36 (dk_at dksX2_number_2 1 rfl rfl)
theorem dX2_number_52 : decode cX2_number 52 = .ok (.aload_n 0, 1) := dk_42 (dk_at dksX2_number_2 4 rfl rfl)
theorem dX2_number_53 : decode cX2_number 53 = .ok (.getfield 61, 3) := dk_180 0 61 (dk_at dksX2_number_2 5 rfl rfl)
theorem dX2_number_56 : decode cX2_number 56 = .ok (.isub, 1) := dk_100 (dk_at dksX2_number_2 8 rfl rfl)
theorem dX2_number_57 : decode cX2_number 57 = .ok (.iconst 4, 1) := dk_7 (dk_at dksX2_number_2 9 rfl rfl)
theorem dX2_number_58 : decode cX2_number 58 = .ok (.if_icmp .ne 13, 3) := dk_160 0 13 (dk_at dksX2_number_2 10 rfl rfl)
theorem dX2_number_61 : decode cX2_number 61 = .ok (.aload_n 0, 1) := dk_42 (dk_at dksX2_number_2 13 rfl rfl)
theorem dX2_number_62 : decode cX2_number 62 = .ok (.iconst 1, 1) := dk_4 (dk_at dksX2_number_2 14 rfl rfl)
theorem dX2_number_63 : decode cX2_number 63 = .ok (.aload_n 0, 1) := dk_42 (dk_at dksX2_number_2 15 rfl rfl)
theorem dX2_number_64 : decode cX2_number 64 = .ok (.getfield 36, 3) := dk_180 0 36 (dk_at dksX2_number_2 16 rfl rfl)
theorem dX2_number_67 : decode cX2_number 67 = .ok (.invokevirtual 47, 3) := dk_182 0 47 (dk_at dksX2_number_2 19 rfl rfl)
theorem dX2_number_70 : decode cX2_number 70 = .ok (.athrow, 1) := dk_191 (dk_at dksX2_number_2 22 rfl rfl)
theorem dX2_number_71 : decode cX2_number 71 = .ok (.bipush 10, 2) := dk_16 10 (dk_at dksX2_number_3 0 rfl rfl)
theorem dX2_number_73 : decode cX2_number 73 = .ok (.iload_n 3, 1) := dk_29 (dk_at dksX2_number_3 2 rfl rfl)
theorem dX2_number_74 : decode cX2_number 74 = .ok (.imul, 1) := dk_104 (dk_at dksX2_number_3 3 rfl rfl)
theorem dX2_number_75 : decode cX2_number 75 = .ok (.aload_n 0, 1) := dk_42 (dk_at dksX2_number_3 4 rfl rfl)
theorem dX2_number_76 : decode cX2_number 76 = .ok (.aload_n 0, 1) := dk_42 (dk_at dksX2_number_3 5 rfl rfl)
theorem dX2_number_77 : decode cX2_number 77 = .ok (.getfield 36, 3) := dk_180 0 36 (dk_at dksX2_number_3 6 rfl rfl)
theorem dX2_number_80 : decode cX2_number 80 = .ok (.invokevirtual 39, 3) := dk_182 0 39 (dk_at dksX2_number_3 9 rfl rfl)
theorem dX2_number_83 : decode cX2_number 83 = .ok (.iadd, 1) := dk_96 (dk_at dksX2_number_3 12 rfl rfl)
theorem dX2_number_84 : decode cX2_number 84 = .ok (.bipush 48, 2) := dk_16 48 (dk_at dksX2_number_3 13 rfl rfl)
theorem dX2_number_86 : decode cX2_number 86 = .ok (.isub, 1) := dk_100 (dk_at dksX2_number_3 15 rfl rfl)
theorem dX2_number_87 : decode cX2_number 87 = .ok (.istore_n 3, 1) := dk_62 (dk_at dksX2_number_3 16 rfl rfl)
theorem dX2_number_88 : decode cX2_number 88 = .ok (.aload_n 0, 1) := dk_42 (dk_at dksX2_number_3 17 rfl rfl)
theorem dX2_number_89 : decode cX2_number 89 = .ok (.dup, 1) := dk_89 (dk_at dksX2_number_3 18 rfl rfl)
theorem dX2_number_90 : decode cX2_number 90 = .ok (.getfield 36, 3) := dk_180 0 36 (dk_at dksX2_number_3 19 rfl rfl)
theorem dX2_number_93 : decode cX2_number 93 = .ok (.iconst 1, 1) := dk_4 (dk_at dksX2_number_3 22 rfl rfl)
theorem dX2_number_94 : decode cX2_number 94 = .ok (.iadd, 1) := dk_96 (dk_at dksX2_number_3 23 rfl rfl)
theorem dX2_number_95 : decode cX2_number 95 = .ok (.putfield 36, 3) := dk_181 0 36 (dk_at dksX2_number_4 0 rfl rfl)
theorem dX2_number_98 : decode cX2_number 98 = .ok (.goto (-64), 3) := dk_167 255 192 (dk_at dksX2_number_4 3 rfl rfl)
theorem dX2_number_101 : decode cX2_number 101 = .ok (.iload_n 3, 1) := dk_29 (dk_at dksX2_number_4 6 rfl rfl)
theorem dX2_number_102 : decode cX2_number 102 = .ok (.iload_n 1, 1) := dk_27 (dk_at dksX2_number_4 7 rfl rfl)
theorem dX2_number_103 : decode cX2_number 103 = .ok (.iload_n 2, 1) := dk_28 (dk_at dksX2_number_4 8 rfl rfl)
theorem dX2_number_104 : decode cX2_number 104 = .ok (.invokestatic 89, 3) := dk_184 0 89 (dk_at dksX2_number_4 9 rfl rfl)
theorem dX2_number_107 : decode cX2_number 107 = .ok (.ifCond .ne 13, 3) := dk_154 0 13 (dk_at dksX2_number_4 12 rfl rfl)
theorem dX2_number_110 : decode cX2_number 110 = .ok (.aload_n 0, 1) := dk_42 (dk_at dksX2_number_4 15 rfl rfl)
theorem dX2_number_111 : decode cX2_number 111 = .ok (.iconst 2, 1) := dk_5 (dk_at dksX2_number_4 16 rfl rfl)
theorem dX2_number_112 : decode cX2_number 112 = .ok (.aload_n 0, 1) := dk_42 (dk_at dksX2_number_4 17 rfl rfl)
theorem dX2_number_113 : decode cX2_number 113 = .ok (.getfield 61, 3) := dk_180 0 61 (dk_at dksX2_number_4 18 rfl rfl)
theorem dX2_number_116 : decode cX2_number 116 = .ok (.invokevirtual 47, 3) := dk_182 0 47 (dk_at dksX2_number_4 21 rfl rfl)
theorem dX2_number_119 : decode cX2_number 119 = .ok (.athrow, 1) := dk_191 (dk_at dksX2_number_5 0 rfl rfl)
theorem dX2_number_120 : decode cX2_number 120 = .ok (.iload_n 3, 1) := dk_29 (dk_at dksX2_number_5 1 rfl rfl)
theorem dX2_number_121 : decode cX2_number 121 = .ok (.ireturn, 1) := dk_172 (dk_at dksX2_number_5 2 rfl rfl)
abbrev cX2_number_2 : ByteArray := prog_19_method_12_code
def yX2_number_2 : MethodName := ⟨RX2, "number", "(Ljava/lang/String;II)I"⟩
def dkwX2_number_2_0 : List UInt8 := [42, 43, 182, 0, 93, 42, 28, 29, 182, 0, 96, 172]
abbrev dktX2_number_2_0 : List UInt8 := dkwX2_number_2_0 ++ []
theorem dksX2_number_2_0 : cX2_number_2.data.toList.drop 0 = dktX2_number_2_0 := by decide +kernel
theorem dX2_number_2_0 : decode cX2_number_2 0 = .ok (.aload_n 0, 1) := dk_42 (dk_at dksX2_number_2_0 0 rfl rfl)
theorem dX2_number_2_1 : decode cX2_number_2 1 = .ok (.aload_n 1, 1) := dk_43 (dk_at dksX2_number_2_0 1 rfl rfl)
theorem dX2_number_2_2 : decode cX2_number_2 2 = .ok (.invokevirtual 93, 3) := dk_182 0 93 (dk_at dksX2_number_2_0 2 rfl rfl)
theorem dX2_number_2_5 : decode cX2_number_2 5 = .ok (.aload_n 0, 1) := dk_42 (dk_at dksX2_number_2_0 5 rfl rfl)
theorem dX2_number_2_6 : decode cX2_number_2 6 = .ok (.iload_n 2, 1) := dk_28 (dk_at dksX2_number_2_0 6 rfl rfl)
theorem dX2_number_2_7 : decode cX2_number_2 7 = .ok (.iload_n 3, 1) := dk_29 (dk_at dksX2_number_2_0 7 rfl rfl)
theorem dX2_number_2_8 : decode cX2_number_2 8 = .ok (.invokevirtual 96, 3) := dk_182 0 96 (dk_at dksX2_number_2_0 8 rfl rfl)
theorem dX2_number_2_11 : decode cX2_number_2 11 = .ok (.ireturn, 1) := dk_172 (dk_at dksX2_number_2_0 11 rfl rfl)
abbrev cX2_must : ByteArray := prog_19_method_5_code
def yX2_must : MethodName := ⟨RX2, "must", "(I)V"⟩
def dkwX2_must_1 : List UInt8 := [96, 181, 0, 36, 177]
abbrev dktX2_must_1 : List UInt8 := dkwX2_must_1 ++ []
def dkwX2_must_0 : List UInt8 := [42, 182, 0, 43, 27, 159, 0, 13, 42, 4, 42, 180, 0, 36, 182, 0, 47, 191, 42, 89, 180, 0, 36, 4]
abbrev dktX2_must_0 : List UInt8 := dkwX2_must_0 ++ dktX2_must_1
theorem dksX2_must_0 : cX2_must.data.toList.drop 0 = dktX2_must_0 := by decide +kernel
theorem dksX2_must_1 : cX2_must.data.toList.drop 24 = dktX2_must_1 := dk_seg dksX2_must_0 24 rfl rfl
theorem dX2_must_0 : decode cX2_must 0 = .ok (.aload_n 0, 1) := dk_42 (dk_at dksX2_must_0 0 rfl rfl)
theorem dX2_must_1 : decode cX2_must 1 = .ok (.invokevirtual 43, 3) := dk_182 0 43 (dk_at dksX2_must_0 1 rfl rfl)
theorem dX2_must_4 : decode cX2_must 4 = .ok (.iload_n 1, 1) := dk_27 (dk_at dksX2_must_0 4 rfl rfl)
theorem dX2_must_5 : decode cX2_must 5 = .ok (.if_icmp .eq 13, 3) := dk_159 0 13 (dk_at dksX2_must_0 5 rfl rfl)
theorem dX2_must_8 : decode cX2_must 8 = .ok (.aload_n 0, 1) := dk_42 (dk_at dksX2_must_0 8 rfl rfl)
theorem dX2_must_9 : decode cX2_must 9 = .ok (.iconst 1, 1) := dk_4 (dk_at dksX2_must_0 9 rfl rfl)
theorem dX2_must_10 : decode cX2_must 10 = .ok (.aload_n 0, 1) := dk_42 (dk_at dksX2_must_0 10 rfl rfl)
theorem dX2_must_11 : decode cX2_must 11 = .ok (.getfield 36, 3) := dk_180 0 36 (dk_at dksX2_must_0 11 rfl rfl)
theorem dX2_must_14 : decode cX2_must 14 = .ok (.invokevirtual 47, 3) := dk_182 0 47 (dk_at dksX2_must_0 14 rfl rfl)
theorem dX2_must_17 : decode cX2_must 17 = .ok (.athrow, 1) := dk_191 (dk_at dksX2_must_0 17 rfl rfl)
theorem dX2_must_18 : decode cX2_must 18 = .ok (.aload_n 0, 1) := dk_42 (dk_at dksX2_must_0 18 rfl rfl)
theorem dX2_must_19 : decode cX2_must 19 = .ok (.dup, 1) := dk_89 (dk_at dksX2_must_0 19 rfl rfl)
theorem dX2_must_20 : decode cX2_must 20 = .ok (.getfield 36, 3) := dk_180 0 36 (dk_at dksX2_must_0 20 rfl rfl)
theorem dX2_must_23 : decode cX2_must 23 = .ok (.iconst 1, 1) := dk_4 (dk_at dksX2_must_0 23 rfl rfl)
theorem dX2_must_24 : decode cX2_must 24 = .ok (.iadd, 1) := dk_96 (dk_at dksX2_must_1 0 rfl rfl)
theorem dX2_must_25 : decode cX2_must 25 = .ok (.putfield 36, 3) := dk_181 0 36 (dk_at dksX2_must_1 1 rfl rfl)
theorem dX2_must_28 : decode cX2_must 28 = .ok (.return_, 1) := dk_177 (dk_at dksX2_must_1 4 rfl rfl)
abbrev cX2_most : ByteArray := prog_19_method_15_code
def yX2_most : MethodName := ⟨RX2, "most", "(ZI)V"⟩
def dkwX2_most_0 : List UInt8 := [27, 153, 0, 10, 42, 8, 28, 182, 0, 47, 191, 177]
abbrev dktX2_most_0 : List UInt8 := dkwX2_most_0 ++ []
theorem dksX2_most_0 : cX2_most.data.toList.drop 0 = dktX2_most_0 := by decide +kernel
theorem dX2_most_0 : decode cX2_most 0 = .ok (.iload_n 1, 1) := dk_27 (dk_at dksX2_most_0 0 rfl rfl)
theorem dX2_most_1 : decode cX2_most 1 = .ok (.ifCond .eq 10, 3) := dk_153 0 10 (dk_at dksX2_most_0 1 rfl rfl)
theorem dX2_most_4 : decode cX2_most 4 = .ok (.aload_n 0, 1) := dk_42 (dk_at dksX2_most_0 4 rfl rfl)
theorem dX2_most_5 : decode cX2_most 5 = .ok (.iconst 5, 1) := dk_8 (dk_at dksX2_most_0 5 rfl rfl)
theorem dX2_most_6 : decode cX2_most 6 = .ok (.iload_n 2, 1) := dk_28 (dk_at dksX2_most_0 6 rfl rfl)
theorem dX2_most_7 : decode cX2_most 7 = .ok (.invokevirtual 47, 3) := dk_182 0 47 (dk_at dksX2_most_0 7 rfl rfl)
theorem dX2_most_10 : decode cX2_most 10 = .ok (.athrow, 1) := dk_191 (dk_at dksX2_most_0 10 rfl rfl)
theorem dX2_most_11 : decode cX2_most 11 = .ok (.return_, 1) := dk_177 (dk_at dksX2_most_0 11 rfl rfl)
abbrev cX2_told : ByteArray := prog_19_method_17_code
def yX2_told : MethodName := ⟨RX2, "told", "(Ljava/lang/String;I)V"⟩
def dkwX2_told_21 : List UInt8 := [182, 0, 47, 191, 177]
abbrev dktX2_told_21 : List UInt8 := dkwX2_told_21 ++ []
def dkwX2_told_20 : List UInt8 := [167, 0, 27, 42, 180, 0, 103, 42, 3, 16, 100, 182, 0, 96, 181, 0, 232, 167, 0, 10, 42, 4, 28]
abbrev dktX2_told_20 : List UInt8 := dkwX2_told_20 ++ dktX2_told_21
def dkwX2_told_19 : List UInt8 := [182, 0, 226, 181, 0, 220, 167, 0, 44, 42, 180, 0, 103, 42, 3, 16, 99, 182, 0, 96, 181, 0, 230]
abbrev dktX2_told_19 : List UInt8 := dkwX2_told_19 ++ dktX2_told_20
def dkwX2_told_18 : List UInt8 := [198, 0, 7, 4, 167, 0, 4, 3, 28, 182, 0, 150, 42, 16, 15, 181, 0, 223, 42, 180, 0, 103, 42]
abbrev dktX2_told_18 : List UInt8 := dkwX2_told_18 ++ dktX2_told_19
def dkwX2_told_17 : List UInt8 := [182, 0, 129, 183, 0, 219, 185, 0, 203, 2, 0, 87, 167, 0, 84, 42, 42, 180, 0, 103, 180, 0, 220]
abbrev dktX2_told_17 : List UInt8 := dkwX2_told_17 ++ dktX2_told_18
def dkwX2_told_16 : List UInt8 := [180, 0, 103, 180, 0, 211, 187, 0, 215, 89, 25, 9, 21, 10, 21, 11, 42, 18, 217, 4, 17, 3, 231]
abbrev dktX2_told_16 : List UInt8 := dkwX2_told_16 ++ dktX2_told_17
def dkwX2_told_15 : List UInt8 := [182, 0, 129, 54, 10, 42, 3, 42, 180, 0, 103, 180, 0, 132, 4, 100, 182, 0, 96, 54, 11, 42]
abbrev dktX2_told_15 : List UInt8 := dkwX2_told_15 ++ dktX2_told_16
def dkwX2_told_14 : List UInt8 := [182, 0, 150, 42, 182, 0, 180, 58, 9, 42, 18, 214, 3, 42, 180, 0, 103, 180, 0, 124, 4, 100]
abbrev dktX2_told_14 : List UInt8 := dkwX2_told_14 ++ dktX2_told_15
def dkwX2_told_13 : List UInt8 := [180, 0, 103, 180, 0, 211, 185, 0, 176, 1, 0, 16, 6, 160, 0, 7, 4, 167, 0, 4, 3, 28]
abbrev dktX2_told_13 : List UInt8 := dkwX2_told_13 ++ dktX2_told_14
def dkwX2_told_12 : List UInt8 := [16, 8, 160, 0, 7, 4, 167, 0, 4, 3, 28, 182, 0, 150, 42, 182, 0, 209, 167, 0, 190, 42, 42]
abbrev dktX2_told_12 : List UInt8 := dkwX2_told_12 ++ dktX2_told_13
def dkwX2_told_11 : List UInt8 := [25, 8, 185, 0, 203, 2, 0, 87, 167, 0, 224, 42, 42, 180, 0, 103, 180, 0, 206, 185, 0, 176, 1, 0]
abbrev dktX2_told_11 : List UInt8 := dkwX2_told_11 ++ dktX2_told_12
def dkwX2_told_10 : List UInt8 := [183, 0, 191, 58, 8, 25, 8, 42, 18, 194, 182, 0, 196, 181, 0, 199, 42, 180, 0, 103, 180, 0, 172]
abbrev dktX2_told_10 : List UInt8 := dkwX2_told_10 ++ dktX2_told_11
def dkwX2_told_9 : List UInt8 := [182, 0, 129, 54, 7, 187, 0, 187, 89, 25, 5, 21, 6, 21, 7, 42, 18, 189, 3, 16, 99, 182, 0, 129]
abbrev dktX2_told_9 : List UInt8 := dkwX2_told_9 ++ dktX2_told_10
def dkwX2_told_8 : List UInt8 := [182, 0, 150, 42, 182, 0, 180, 58, 5, 42, 18, 183, 4, 7, 182, 0, 129, 54, 6, 42, 18, 185, 4, 7]
abbrev dktX2_told_8 : List UInt8 := dkwX2_told_8 ++ dktX2_told_9
def dkwX2_told_7 : List UInt8 := [42, 42, 180, 0, 103, 180, 0, 172, 185, 0, 176, 1, 0, 8, 160, 0, 7, 4, 167, 0, 4, 3, 28]
abbrev dktX2_told_7 : List UInt8 := dkwX2_told_7 ++ dktX2_told_8
def dkwX2_told_6 : List UInt8 := [170, 0, 0, 0, 0, 1, 102, 0, 0, 0, 0, 0, 0, 0, 5, 0, 0, 0, 39, 0, 0, 0, 144, 0, 0, 0, 178, 0, 0, 1, 28, 0, 0, 1, 68, 0, 0, 1, 85]
abbrev dktX2_told_6 : List UInt8 := dkwX2_told_6 ++ dktX2_told_7
def dkwX2_told_5 : List UInt8 := [167, 0, 15, 45, 18, 170, 182, 0, 74, 153, 0, 6, 8, 54, 4, 21, 4]
abbrev dktX2_told_5 : List UInt8 := dkwX2_told_5 ++ dktX2_told_6
def dkwX2_told_4 : List UInt8 := [182, 0, 74, 153, 0, 36, 6, 54, 4, 167, 0, 30, 45, 18, 168, 182, 0, 74, 153, 0, 21, 7, 54, 4]
abbrev dktX2_told_4 : List UInt8 := dkwX2_told_4 ++ dktX2_told_5
def dkwX2_told_3 : List UInt8 := [4, 54, 4, 167, 0, 60, 45, 18, 164, 182, 0, 74, 153, 0, 51, 5, 54, 4, 167, 0, 45, 45, 18, 166]
abbrev dktX2_told_3 : List UInt8 := dkwX2_told_3 ++ dktX2_told_4
def dkwX2_told_2 : List UInt8 := [45, 18, 161, 182, 0, 74, 153, 0, 81, 3, 54, 4, 167, 0, 75, 45, 18, 162, 182, 0, 74, 153, 0, 66]
abbrev dktX2_told_2 : List UInt8 := dkwX2_told_2 ++ dktX2_told_3
def dkwX2_told_1 : List UInt8 := [171, 0, 0, 0, 0, 0, 146, 0, 0, 0, 6, 202, 94, 172, 130, 0, 0, 0, 134, 0, 1, 165, 90, 0, 0, 0, 74, 0, 48, 192, 244, 0, 0, 0, 104, 0, 50, 59, 148, 0, 0, 0, 59, 5, 206, 160, 250, 0, 0, 0, 89, 5, 224, 246, 192, 0, 0, 0, 119]
abbrev dktX2_told_1 : List UInt8 := dkwX2_told_1 ++ dktX2_told_2
def dkwX2_told_0 : List UInt8 := [43, 78, 2, 54, 4, 45, 182, 0, 158]
abbrev dktX2_told_0 : List UInt8 := dkwX2_told_0 ++ dktX2_told_1
theorem dksX2_told_0 : cX2_told.data.toList.drop 0 = dktX2_told_0 := by decide +kernel
theorem dksX2_told_1 : cX2_told.data.toList.drop 9 = dktX2_told_1 := dk_seg dksX2_told_0 9 rfl rfl
theorem dksX2_told_2 : cX2_told.data.toList.drop 68 = dktX2_told_2 := dk_seg dksX2_told_1 59 rfl rfl
theorem dksX2_told_3 : cX2_told.data.toList.drop 92 = dktX2_told_3 := dk_seg dksX2_told_2 24 rfl rfl
theorem dksX2_told_4 : cX2_told.data.toList.drop 116 = dktX2_told_4 := dk_seg dksX2_told_3 24 rfl rfl
theorem dksX2_told_5 : cX2_told.data.toList.drop 140 = dktX2_told_5 := dk_seg dksX2_told_4 24 rfl rfl
theorem dksX2_told_6 : cX2_told.data.toList.drop 157 = dktX2_told_6 := dk_seg dksX2_told_5 17 rfl rfl
theorem dksX2_told_7 : cX2_told.data.toList.drop 196 = dktX2_told_7 := dk_seg dksX2_told_6 39 rfl rfl
theorem dksX2_told_8 : cX2_told.data.toList.drop 219 = dktX2_told_8 := dk_seg dksX2_told_7 23 rfl rfl
theorem dksX2_told_9 : cX2_told.data.toList.drop 243 = dktX2_told_9 := dk_seg dksX2_told_8 24 rfl rfl
theorem dksX2_told_10 : cX2_told.data.toList.drop 267 = dktX2_told_10 := dk_seg dksX2_told_9 24 rfl rfl
theorem dksX2_told_11 : cX2_told.data.toList.drop 290 = dktX2_told_11 := dk_seg dksX2_told_10 23 rfl rfl
theorem dksX2_told_12 : cX2_told.data.toList.drop 314 = dktX2_told_12 := dk_seg dksX2_told_11 24 rfl rfl
theorem dksX2_told_13 : cX2_told.data.toList.drop 337 = dktX2_told_13 := dk_seg dksX2_told_12 23 rfl rfl
theorem dksX2_told_14 : cX2_told.data.toList.drop 359 = dktX2_told_14 := dk_seg dksX2_told_13 22 rfl rfl
theorem dksX2_told_15 : cX2_told.data.toList.drop 381 = dktX2_told_15 := dk_seg dksX2_told_14 22 rfl rfl
theorem dksX2_told_16 : cX2_told.data.toList.drop 403 = dktX2_told_16 := dk_seg dksX2_told_15 22 rfl rfl
theorem dksX2_told_17 : cX2_told.data.toList.drop 426 = dktX2_told_17 := dk_seg dksX2_told_16 23 rfl rfl
theorem dksX2_told_18 : cX2_told.data.toList.drop 449 = dktX2_told_18 := dk_seg dksX2_told_17 23 rfl rfl
theorem dksX2_told_19 : cX2_told.data.toList.drop 472 = dktX2_told_19 := dk_seg dksX2_told_18 23 rfl rfl
theorem dksX2_told_20 : cX2_told.data.toList.drop 495 = dktX2_told_20 := dk_seg dksX2_told_19 23 rfl rfl
theorem dksX2_told_21 : cX2_told.data.toList.drop 518 = dktX2_told_21 := dk_seg dksX2_told_20 23 rfl rfl
theorem dX2_told_0 : decode cX2_told 0 = .ok (.aload_n 1, 1) := dk_43 (dk_at dksX2_told_0 0 rfl rfl)
theorem dX2_told_1 : decode cX2_told 1 = .ok (.astore_n 3, 1) := dk_78 (dk_at dksX2_told_0 1 rfl rfl)
theorem dX2_told_2 : decode cX2_told 2 = .ok (.iconst (-1), 1) := dk_2 (dk_at dksX2_told_0 2 rfl rfl)
theorem dX2_told_3 : decode cX2_told 3 = .ok (.istore 4, 2) := dk_54 4 (dk_at dksX2_told_0 3 rfl rfl)
theorem dX2_told_5 : decode cX2_told 5 = .ok (.aload_n 3, 1) := dk_45 (dk_at dksX2_told_0 5 rfl rfl)
theorem dX2_told_6 : decode cX2_told 6 = .ok (.invokevirtual 158, 3) := dk_182 0 158 (dk_at dksX2_told_0 6 rfl rfl)
theorem dX2_told_9 : decode cX2_told 9 = .ok (.lookupswitch 146 #[(-899765118, 134), (107866, 74), (3195124, 104), (3292052, 59), (97427706, 89), (98629312, 119)], 59) := by decide +kernel
theorem dX2_told_68 : decode cX2_told 68 = .ok (.aload_n 3, 1) := dk_45 (dk_at dksX2_told_2 0 rfl rfl)
theorem dX2_told_69 : decode cX2_told 69 = .ok (.ldc 161, 2) := dk_18 161 (dk_at dksX2_told_2 1 rfl rfl)
theorem dX2_told_71 : decode cX2_told 71 = .ok (.invokevirtual 74, 3) := dk_182 0 74 (dk_at dksX2_told_2 3 rfl rfl)
theorem dX2_told_74 : decode cX2_told 74 = .ok (.ifCond .eq 81, 3) := dk_153 0 81 (dk_at dksX2_told_2 6 rfl rfl)
theorem dX2_told_77 : decode cX2_told 77 = .ok (.iconst 0, 1) := dk_3 (dk_at dksX2_told_2 9 rfl rfl)
theorem dX2_told_78 : decode cX2_told 78 = .ok (.istore 4, 2) := dk_54 4 (dk_at dksX2_told_2 10 rfl rfl)
theorem dX2_told_80 : decode cX2_told 80 = .ok (.goto 75, 3) := dk_167 0 75 (dk_at dksX2_told_2 12 rfl rfl)
theorem dX2_told_83 : decode cX2_told 83 = .ok (.aload_n 3, 1) := dk_45 (dk_at dksX2_told_2 15 rfl rfl)
theorem dX2_told_84 : decode cX2_told 84 = .ok (.ldc 162, 2) := dk_18 162 (dk_at dksX2_told_2 16 rfl rfl)
theorem dX2_told_86 : decode cX2_told 86 = .ok (.invokevirtual 74, 3) := dk_182 0 74 (dk_at dksX2_told_2 18 rfl rfl)
theorem dX2_told_89 : decode cX2_told 89 = .ok (.ifCond .eq 66, 3) := dk_153 0 66 (dk_at dksX2_told_2 21 rfl rfl)
theorem dX2_told_92 : decode cX2_told 92 = .ok (.iconst 1, 1) := dk_4 (dk_at dksX2_told_3 0 rfl rfl)
theorem dX2_told_93 : decode cX2_told 93 = .ok (.istore 4, 2) := dk_54 4 (dk_at dksX2_told_3 1 rfl rfl)
theorem dX2_told_95 : decode cX2_told 95 = .ok (.goto 60, 3) := dk_167 0 60 (dk_at dksX2_told_3 3 rfl rfl)
theorem dX2_told_98 : decode cX2_told 98 = .ok (.aload_n 3, 1) := dk_45 (dk_at dksX2_told_3 6 rfl rfl)
theorem dX2_told_99 : decode cX2_told 99 = .ok (.ldc 164, 2) := dk_18 164 (dk_at dksX2_told_3 7 rfl rfl)
theorem dX2_told_101 : decode cX2_told 101 = .ok (.invokevirtual 74, 3) := dk_182 0 74 (dk_at dksX2_told_3 9 rfl rfl)
theorem dX2_told_104 : decode cX2_told 104 = .ok (.ifCond .eq 51, 3) := dk_153 0 51 (dk_at dksX2_told_3 12 rfl rfl)
theorem dX2_told_107 : decode cX2_told 107 = .ok (.iconst 2, 1) := dk_5 (dk_at dksX2_told_3 15 rfl rfl)
theorem dX2_told_108 : decode cX2_told 108 = .ok (.istore 4, 2) := dk_54 4 (dk_at dksX2_told_3 16 rfl rfl)
theorem dX2_told_110 : decode cX2_told 110 = .ok (.goto 45, 3) := dk_167 0 45 (dk_at dksX2_told_3 18 rfl rfl)
theorem dX2_told_113 : decode cX2_told 113 = .ok (.aload_n 3, 1) := dk_45 (dk_at dksX2_told_3 21 rfl rfl)
theorem dX2_told_114 : decode cX2_told 114 = .ok (.ldc 166, 2) := dk_18 166 (dk_at dksX2_told_3 22 rfl rfl)
theorem dX2_told_116 : decode cX2_told 116 = .ok (.invokevirtual 74, 3) := dk_182 0 74 (dk_at dksX2_told_4 0 rfl rfl)
theorem dX2_told_119 : decode cX2_told 119 = .ok (.ifCond .eq 36, 3) := dk_153 0 36 (dk_at dksX2_told_4 3 rfl rfl)
theorem dX2_told_122 : decode cX2_told 122 = .ok (.iconst 3, 1) := dk_6 (dk_at dksX2_told_4 6 rfl rfl)
theorem dX2_told_123 : decode cX2_told 123 = .ok (.istore 4, 2) := dk_54 4 (dk_at dksX2_told_4 7 rfl rfl)
theorem dX2_told_125 : decode cX2_told 125 = .ok (.goto 30, 3) := dk_167 0 30 (dk_at dksX2_told_4 9 rfl rfl)
theorem dX2_told_128 : decode cX2_told 128 = .ok (.aload_n 3, 1) := dk_45 (dk_at dksX2_told_4 12 rfl rfl)
theorem dX2_told_129 : decode cX2_told 129 = .ok (.ldc 168, 2) := dk_18 168 (dk_at dksX2_told_4 13 rfl rfl)
theorem dX2_told_131 : decode cX2_told 131 = .ok (.invokevirtual 74, 3) := dk_182 0 74 (dk_at dksX2_told_4 15 rfl rfl)
theorem dX2_told_134 : decode cX2_told 134 = .ok (.ifCond .eq 21, 3) := dk_153 0 21 (dk_at dksX2_told_4 18 rfl rfl)
theorem dX2_told_137 : decode cX2_told 137 = .ok (.iconst 4, 1) := dk_7 (dk_at dksX2_told_4 21 rfl rfl)
theorem dX2_told_138 : decode cX2_told 138 = .ok (.istore 4, 2) := dk_54 4 (dk_at dksX2_told_4 22 rfl rfl)
theorem dX2_told_140 : decode cX2_told 140 = .ok (.goto 15, 3) := dk_167 0 15 (dk_at dksX2_told_5 0 rfl rfl)
theorem dX2_told_143 : decode cX2_told 143 = .ok (.aload_n 3, 1) := dk_45 (dk_at dksX2_told_5 3 rfl rfl)
theorem dX2_told_144 : decode cX2_told 144 = .ok (.ldc 170, 2) := dk_18 170 (dk_at dksX2_told_5 4 rfl rfl)
theorem dX2_told_146 : decode cX2_told 146 = .ok (.invokevirtual 74, 3) := dk_182 0 74 (dk_at dksX2_told_5 6 rfl rfl)
theorem dX2_told_149 : decode cX2_told 149 = .ok (.ifCond .eq 6, 3) := dk_153 0 6 (dk_at dksX2_told_5 9 rfl rfl)
theorem dX2_told_152 : decode cX2_told 152 = .ok (.iconst 5, 1) := dk_8 (dk_at dksX2_told_5 12 rfl rfl)
theorem dX2_told_153 : decode cX2_told 153 = .ok (.istore 4, 2) := dk_54 4 (dk_at dksX2_told_5 13 rfl rfl)
theorem dX2_told_155 : decode cX2_told 155 = .ok (.iload 4, 2) := dk_21 4 (dk_at dksX2_told_5 15 rfl rfl)
theorem dX2_told_157 : decode cX2_told 157 = .ok (.tableswitch 358 0 5 #[39, 144, 178, 284, 324, 341], 39) := by decide +kernel
theorem dX2_told_196 : decode cX2_told 196 = .ok (.aload_n 0, 1) := dk_42 (dk_at dksX2_told_7 0 rfl rfl)
theorem dX2_told_197 : decode cX2_told 197 = .ok (.aload_n 0, 1) := dk_42 (dk_at dksX2_told_7 1 rfl rfl)
theorem dX2_told_198 : decode cX2_told 198 = .ok (.getfield 103, 3) := dk_180 0 103 (dk_at dksX2_told_7 2 rfl rfl)
theorem dX2_told_201 : decode cX2_told 201 = .ok (.getfield 172, 3) := dk_180 0 172 (dk_at dksX2_told_7 5 rfl rfl)
theorem dX2_told_204 : decode cX2_told 204 = .ok (.invokeinterface 176 1, 5) := by decide +kernel
theorem dX2_told_209 : decode cX2_told 209 = .ok (.iconst 5, 1) := dk_8 (dk_at dksX2_told_7 13 rfl rfl)
theorem dX2_told_210 : decode cX2_told 210 = .ok (.if_icmp .ne 7, 3) := dk_160 0 7 (dk_at dksX2_told_7 14 rfl rfl)
theorem dX2_told_213 : decode cX2_told 213 = .ok (.iconst 1, 1) := dk_4 (dk_at dksX2_told_7 17 rfl rfl)
theorem dX2_told_214 : decode cX2_told 214 = .ok (.goto 4, 3) := dk_167 0 4 (dk_at dksX2_told_7 18 rfl rfl)
theorem dX2_told_217 : decode cX2_told 217 = .ok (.iconst 0, 1) := dk_3 (dk_at dksX2_told_7 21 rfl rfl)
theorem dX2_told_218 : decode cX2_told 218 = .ok (.iload_n 2, 1) := dk_28 (dk_at dksX2_told_7 22 rfl rfl)
theorem dX2_told_219 : decode cX2_told 219 = .ok (.invokevirtual 150, 3) := dk_182 0 150 (dk_at dksX2_told_8 0 rfl rfl)
theorem dX2_told_222 : decode cX2_told 222 = .ok (.aload_n 0, 1) := dk_42 (dk_at dksX2_told_8 3 rfl rfl)
theorem dX2_told_223 : decode cX2_told 223 = .ok (.invokevirtual 180, 3) := dk_182 0 180 (dk_at dksX2_told_8 4 rfl rfl)
theorem dX2_told_226 : decode cX2_told 226 = .ok (.astore 5, 2) := dk_58 5 (dk_at dksX2_told_8 7 rfl rfl)
theorem dX2_told_228 : decode cX2_told 228 = .ok (.aload_n 0, 1) := dk_42 (dk_at dksX2_told_8 9 rfl rfl)
theorem dX2_told_229 : decode cX2_told 229 = .ok (.ldc 183, 2) := dk_18 183 (dk_at dksX2_told_8 10 rfl rfl)
theorem dX2_told_231 : decode cX2_told 231 = .ok (.iconst 1, 1) := dk_4 (dk_at dksX2_told_8 12 rfl rfl)
theorem dX2_told_232 : decode cX2_told 232 = .ok (.iconst 4, 1) := dk_7 (dk_at dksX2_told_8 13 rfl rfl)
theorem dX2_told_233 : decode cX2_told 233 = .ok (.invokevirtual 129, 3) := dk_182 0 129 (dk_at dksX2_told_8 14 rfl rfl)
theorem dX2_told_236 : decode cX2_told 236 = .ok (.istore 6, 2) := dk_54 6 (dk_at dksX2_told_8 17 rfl rfl)
theorem dX2_told_238 : decode cX2_told 238 = .ok (.aload_n 0, 1) := dk_42 (dk_at dksX2_told_8 19 rfl rfl)
theorem dX2_told_239 : decode cX2_told 239 = .ok (.ldc 185, 2) := dk_18 185 (dk_at dksX2_told_8 20 rfl rfl)
theorem dX2_told_241 : decode cX2_told 241 = .ok (.iconst 1, 1) := dk_4 (dk_at dksX2_told_8 22 rfl rfl)
theorem dX2_told_242 : decode cX2_told 242 = .ok (.iconst 4, 1) := dk_7 (dk_at dksX2_told_8 23 rfl rfl)
theorem dX2_told_243 : decode cX2_told 243 = .ok (.invokevirtual 129, 3) := dk_182 0 129 (dk_at dksX2_told_9 0 rfl rfl)
theorem dX2_told_246 : decode cX2_told 246 = .ok (.istore 7, 2) := dk_54 7 (dk_at dksX2_told_9 3 rfl rfl)
theorem dX2_told_248 : decode cX2_told 248 = .ok (.new 187, 3) := dk_187 0 187 (dk_at dksX2_told_9 5 rfl rfl)
theorem dX2_told_251 : decode cX2_told 251 = .ok (.dup, 1) := dk_89 (dk_at dksX2_told_9 8 rfl rfl)
theorem dX2_told_252 : decode cX2_told 252 = .ok (.aload 5, 2) := dk_25 5 (dk_at dksX2_told_9 9 rfl rfl)
theorem dX2_told_254 : decode cX2_told 254 = .ok (.iload 6, 2) := dk_21 6 (dk_at dksX2_told_9 11 rfl rfl)
theorem dX2_told_256 : decode cX2_told 256 = .ok (.iload 7, 2) := dk_21 7 (dk_at dksX2_told_9 13 rfl rfl)
theorem dX2_told_258 : decode cX2_told 258 = .ok (.aload_n 0, 1) := dk_42 (dk_at dksX2_told_9 15 rfl rfl)
theorem dX2_told_259 : decode cX2_told 259 = .ok (.ldc 189, 2) := dk_18 189 (dk_at dksX2_told_9 16 rfl rfl)
theorem dX2_told_261 : decode cX2_told 261 = .ok (.iconst 0, 1) := dk_3 (dk_at dksX2_told_9 18 rfl rfl)
theorem dX2_told_262 : decode cX2_told 262 = .ok (.bipush 99, 2) := dk_16 99 (dk_at dksX2_told_9 19 rfl rfl)
theorem dX2_told_264 : decode cX2_told 264 = .ok (.invokevirtual 129, 3) := dk_182 0 129 (dk_at dksX2_told_9 21 rfl rfl)
theorem dX2_told_267 : decode cX2_told 267 = .ok (.invokespecial 191, 3) := dk_183 0 191 (dk_at dksX2_told_10 0 rfl rfl)
theorem dX2_told_270 : decode cX2_told 270 = .ok (.astore 8, 2) := dk_58 8 (dk_at dksX2_told_10 3 rfl rfl)
theorem dX2_told_272 : decode cX2_told 272 = .ok (.aload 8, 2) := dk_25 8 (dk_at dksX2_told_10 5 rfl rfl)
theorem dX2_told_274 : decode cX2_told 274 = .ok (.aload_n 0, 1) := dk_42 (dk_at dksX2_told_10 7 rfl rfl)
theorem dX2_told_275 : decode cX2_told 275 = .ok (.ldc 194, 2) := dk_18 194 (dk_at dksX2_told_10 8 rfl rfl)
theorem dX2_told_277 : decode cX2_told 277 = .ok (.invokevirtual 196, 3) := dk_182 0 196 (dk_at dksX2_told_10 10 rfl rfl)
theorem dX2_told_280 : decode cX2_told 280 = .ok (.putfield 199, 3) := dk_181 0 199 (dk_at dksX2_told_10 13 rfl rfl)
theorem dX2_told_283 : decode cX2_told 283 = .ok (.aload_n 0, 1) := dk_42 (dk_at dksX2_told_10 16 rfl rfl)
theorem dX2_told_284 : decode cX2_told 284 = .ok (.getfield 103, 3) := dk_180 0 103 (dk_at dksX2_told_10 17 rfl rfl)
theorem dX2_told_287 : decode cX2_told 287 = .ok (.getfield 172, 3) := dk_180 0 172 (dk_at dksX2_told_10 20 rfl rfl)
theorem dX2_told_290 : decode cX2_told 290 = .ok (.aload 8, 2) := dk_25 8 (dk_at dksX2_told_11 0 rfl rfl)
theorem dX2_told_292 : decode cX2_told 292 = .ok (.invokeinterface 203 2, 5) := by decide +kernel
theorem dX2_told_297 : decode cX2_told 297 = .ok (.pop, 1) := dk_87 (dk_at dksX2_told_11 7 rfl rfl)
theorem dX2_told_298 : decode cX2_told 298 = .ok (.goto 224, 3) := dk_167 0 224 (dk_at dksX2_told_11 8 rfl rfl)
theorem dX2_told_301 : decode cX2_told 301 = .ok (.aload_n 0, 1) := dk_42 (dk_at dksX2_told_11 11 rfl rfl)
theorem dX2_told_302 : decode cX2_told 302 = .ok (.aload_n 0, 1) := dk_42 (dk_at dksX2_told_11 12 rfl rfl)
theorem dX2_told_303 : decode cX2_told 303 = .ok (.getfield 103, 3) := dk_180 0 103 (dk_at dksX2_told_11 13 rfl rfl)
theorem dX2_told_306 : decode cX2_told 306 = .ok (.getfield 206, 3) := dk_180 0 206 (dk_at dksX2_told_11 16 rfl rfl)
theorem dX2_told_309 : decode cX2_told 309 = .ok (.invokeinterface 176 1, 5) := by decide +kernel
theorem dX2_told_314 : decode cX2_told 314 = .ok (.bipush 8, 2) := dk_16 8 (dk_at dksX2_told_12 0 rfl rfl)
theorem dX2_told_316 : decode cX2_told 316 = .ok (.if_icmp .ne 7, 3) := dk_160 0 7 (dk_at dksX2_told_12 2 rfl rfl)
theorem dX2_told_319 : decode cX2_told 319 = .ok (.iconst 1, 1) := dk_4 (dk_at dksX2_told_12 5 rfl rfl)
theorem dX2_told_320 : decode cX2_told 320 = .ok (.goto 4, 3) := dk_167 0 4 (dk_at dksX2_told_12 6 rfl rfl)
theorem dX2_told_323 : decode cX2_told 323 = .ok (.iconst 0, 1) := dk_3 (dk_at dksX2_told_12 9 rfl rfl)
theorem dX2_told_324 : decode cX2_told 324 = .ok (.iload_n 2, 1) := dk_28 (dk_at dksX2_told_12 10 rfl rfl)
theorem dX2_told_325 : decode cX2_told 325 = .ok (.invokevirtual 150, 3) := dk_182 0 150 (dk_at dksX2_told_12 11 rfl rfl)
theorem dX2_told_328 : decode cX2_told 328 = .ok (.aload_n 0, 1) := dk_42 (dk_at dksX2_told_12 14 rfl rfl)
theorem dX2_told_329 : decode cX2_told 329 = .ok (.invokevirtual 209, 3) := dk_182 0 209 (dk_at dksX2_told_12 15 rfl rfl)
theorem dX2_told_332 : decode cX2_told 332 = .ok (.goto 190, 3) := dk_167 0 190 (dk_at dksX2_told_12 18 rfl rfl)
theorem dX2_told_335 : decode cX2_told 335 = .ok (.aload_n 0, 1) := dk_42 (dk_at dksX2_told_12 21 rfl rfl)
theorem dX2_told_336 : decode cX2_told 336 = .ok (.aload_n 0, 1) := dk_42 (dk_at dksX2_told_12 22 rfl rfl)
theorem dX2_told_337 : decode cX2_told 337 = .ok (.getfield 103, 3) := dk_180 0 103 (dk_at dksX2_told_13 0 rfl rfl)
theorem dX2_told_340 : decode cX2_told 340 = .ok (.getfield 211, 3) := dk_180 0 211 (dk_at dksX2_told_13 3 rfl rfl)
theorem dX2_told_343 : decode cX2_told 343 = .ok (.invokeinterface 176 1, 5) := by decide +kernel
theorem dX2_told_348 : decode cX2_told 348 = .ok (.bipush 6, 2) := dk_16 6 (dk_at dksX2_told_13 11 rfl rfl)
theorem dX2_told_350 : decode cX2_told 350 = .ok (.if_icmp .ne 7, 3) := dk_160 0 7 (dk_at dksX2_told_13 13 rfl rfl)
theorem dX2_told_353 : decode cX2_told 353 = .ok (.iconst 1, 1) := dk_4 (dk_at dksX2_told_13 16 rfl rfl)
theorem dX2_told_354 : decode cX2_told 354 = .ok (.goto 4, 3) := dk_167 0 4 (dk_at dksX2_told_13 17 rfl rfl)
theorem dX2_told_357 : decode cX2_told 357 = .ok (.iconst 0, 1) := dk_3 (dk_at dksX2_told_13 20 rfl rfl)
theorem dX2_told_358 : decode cX2_told 358 = .ok (.iload_n 2, 1) := dk_28 (dk_at dksX2_told_13 21 rfl rfl)
theorem dX2_told_359 : decode cX2_told 359 = .ok (.invokevirtual 150, 3) := dk_182 0 150 (dk_at dksX2_told_14 0 rfl rfl)
theorem dX2_told_362 : decode cX2_told 362 = .ok (.aload_n 0, 1) := dk_42 (dk_at dksX2_told_14 3 rfl rfl)
theorem dX2_told_363 : decode cX2_told 363 = .ok (.invokevirtual 180, 3) := dk_182 0 180 (dk_at dksX2_told_14 4 rfl rfl)
theorem dX2_told_366 : decode cX2_told 366 = .ok (.astore 9, 2) := dk_58 9 (dk_at dksX2_told_14 7 rfl rfl)
theorem dX2_told_368 : decode cX2_told 368 = .ok (.aload_n 0, 1) := dk_42 (dk_at dksX2_told_14 9 rfl rfl)
theorem dX2_told_369 : decode cX2_told 369 = .ok (.ldc 214, 2) := dk_18 214 (dk_at dksX2_told_14 10 rfl rfl)
theorem dX2_told_371 : decode cX2_told 371 = .ok (.iconst 0, 1) := dk_3 (dk_at dksX2_told_14 12 rfl rfl)
theorem dX2_told_372 : decode cX2_told 372 = .ok (.aload_n 0, 1) := dk_42 (dk_at dksX2_told_14 13 rfl rfl)
theorem dX2_told_373 : decode cX2_told 373 = .ok (.getfield 103, 3) := dk_180 0 103 (dk_at dksX2_told_14 14 rfl rfl)
theorem dX2_told_376 : decode cX2_told 376 = .ok (.getfield 124, 3) := dk_180 0 124 (dk_at dksX2_told_14 17 rfl rfl)
theorem dX2_told_379 : decode cX2_told 379 = .ok (.iconst 1, 1) := dk_4 (dk_at dksX2_told_14 20 rfl rfl)
theorem dX2_told_380 : decode cX2_told 380 = .ok (.isub, 1) := dk_100 (dk_at dksX2_told_14 21 rfl rfl)
theorem dX2_told_381 : decode cX2_told 381 = .ok (.invokevirtual 129, 3) := dk_182 0 129 (dk_at dksX2_told_15 0 rfl rfl)
theorem dX2_told_384 : decode cX2_told 384 = .ok (.istore 10, 2) := dk_54 10 (dk_at dksX2_told_15 3 rfl rfl)
theorem dX2_told_386 : decode cX2_told 386 = .ok (.aload_n 0, 1) := dk_42 (dk_at dksX2_told_15 5 rfl rfl)
theorem dX2_told_387 : decode cX2_told 387 = .ok (.iconst 0, 1) := dk_3 (dk_at dksX2_told_15 6 rfl rfl)
theorem dX2_told_388 : decode cX2_told 388 = .ok (.aload_n 0, 1) := dk_42 (dk_at dksX2_told_15 7 rfl rfl)
theorem dX2_told_389 : decode cX2_told 389 = .ok (.getfield 103, 3) := dk_180 0 103 (dk_at dksX2_told_15 8 rfl rfl)
theorem dX2_told_392 : decode cX2_told 392 = .ok (.getfield 132, 3) := dk_180 0 132 (dk_at dksX2_told_15 11 rfl rfl)
theorem dX2_told_395 : decode cX2_told 395 = .ok (.iconst 1, 1) := dk_4 (dk_at dksX2_told_15 14 rfl rfl)
theorem dX2_told_396 : decode cX2_told 396 = .ok (.isub, 1) := dk_100 (dk_at dksX2_told_15 15 rfl rfl)
theorem dX2_told_397 : decode cX2_told 397 = .ok (.invokevirtual 96, 3) := dk_182 0 96 (dk_at dksX2_told_15 16 rfl rfl)
theorem dX2_told_400 : decode cX2_told 400 = .ok (.istore 11, 2) := dk_54 11 (dk_at dksX2_told_15 19 rfl rfl)
theorem dX2_told_402 : decode cX2_told 402 = .ok (.aload_n 0, 1) := dk_42 (dk_at dksX2_told_15 21 rfl rfl)
theorem dX2_told_403 : decode cX2_told 403 = .ok (.getfield 103, 3) := dk_180 0 103 (dk_at dksX2_told_16 0 rfl rfl)
theorem dX2_told_406 : decode cX2_told 406 = .ok (.getfield 211, 3) := dk_180 0 211 (dk_at dksX2_told_16 3 rfl rfl)
theorem dX2_told_409 : decode cX2_told 409 = .ok (.new 215, 3) := dk_187 0 215 (dk_at dksX2_told_16 6 rfl rfl)
theorem dX2_told_412 : decode cX2_told 412 = .ok (.dup, 1) := dk_89 (dk_at dksX2_told_16 9 rfl rfl)
theorem dX2_told_413 : decode cX2_told 413 = .ok (.aload 9, 2) := dk_25 9 (dk_at dksX2_told_16 10 rfl rfl)
theorem dX2_told_415 : decode cX2_told 415 = .ok (.iload 10, 2) := dk_21 10 (dk_at dksX2_told_16 12 rfl rfl)
theorem dX2_told_417 : decode cX2_told 417 = .ok (.iload 11, 2) := dk_21 11 (dk_at dksX2_told_16 14 rfl rfl)
theorem dX2_told_419 : decode cX2_told 419 = .ok (.aload_n 0, 1) := dk_42 (dk_at dksX2_told_16 16 rfl rfl)
theorem dX2_told_420 : decode cX2_told 420 = .ok (.ldc 217, 2) := dk_18 217 (dk_at dksX2_told_16 17 rfl rfl)
theorem dX2_told_422 : decode cX2_told 422 = .ok (.iconst 1, 1) := dk_4 (dk_at dksX2_told_16 19 rfl rfl)
theorem dX2_told_423 : decode cX2_told 423 = .ok (.sipush 999, 3) := dk_17 3 231 (dk_at dksX2_told_16 20 rfl rfl)
theorem dX2_told_426 : decode cX2_told 426 = .ok (.invokevirtual 129, 3) := dk_182 0 129 (dk_at dksX2_told_17 0 rfl rfl)
theorem dX2_told_429 : decode cX2_told 429 = .ok (.invokespecial 219, 3) := dk_183 0 219 (dk_at dksX2_told_17 3 rfl rfl)
theorem dX2_told_432 : decode cX2_told 432 = .ok (.invokeinterface 203 2, 5) := by decide +kernel
theorem dX2_told_437 : decode cX2_told 437 = .ok (.pop, 1) := dk_87 (dk_at dksX2_told_17 11 rfl rfl)
theorem dX2_told_438 : decode cX2_told 438 = .ok (.goto 84, 3) := dk_167 0 84 (dk_at dksX2_told_17 12 rfl rfl)
theorem dX2_told_441 : decode cX2_told 441 = .ok (.aload_n 0, 1) := dk_42 (dk_at dksX2_told_17 15 rfl rfl)
theorem dX2_told_442 : decode cX2_told 442 = .ok (.aload_n 0, 1) := dk_42 (dk_at dksX2_told_17 16 rfl rfl)
theorem dX2_told_443 : decode cX2_told 443 = .ok (.getfield 103, 3) := dk_180 0 103 (dk_at dksX2_told_17 17 rfl rfl)
theorem dX2_told_446 : decode cX2_told 446 = .ok (.getfield 220, 3) := dk_180 0 220 (dk_at dksX2_told_17 20 rfl rfl)
theorem dX2_told_449 : decode cX2_told 449 = .ok (.ifnull 7, 3) := dk_198 0 7 (dk_at dksX2_told_18 0 rfl rfl)
theorem dX2_told_452 : decode cX2_told 452 = .ok (.iconst 1, 1) := dk_4 (dk_at dksX2_told_18 3 rfl rfl)
theorem dX2_told_453 : decode cX2_told 453 = .ok (.goto 4, 3) := dk_167 0 4 (dk_at dksX2_told_18 4 rfl rfl)
theorem dX2_told_456 : decode cX2_told 456 = .ok (.iconst 0, 1) := dk_3 (dk_at dksX2_told_18 7 rfl rfl)
theorem dX2_told_457 : decode cX2_told 457 = .ok (.iload_n 2, 1) := dk_28 (dk_at dksX2_told_18 8 rfl rfl)
theorem dX2_told_458 : decode cX2_told 458 = .ok (.invokevirtual 150, 3) := dk_182 0 150 (dk_at dksX2_told_18 9 rfl rfl)
theorem dX2_told_461 : decode cX2_told 461 = .ok (.aload_n 0, 1) := dk_42 (dk_at dksX2_told_18 12 rfl rfl)
theorem dX2_told_462 : decode cX2_told 462 = .ok (.bipush 15, 2) := dk_16 15 (dk_at dksX2_told_18 13 rfl rfl)
theorem dX2_told_464 : decode cX2_told 464 = .ok (.putfield 223, 3) := dk_181 0 223 (dk_at dksX2_told_18 15 rfl rfl)
theorem dX2_told_467 : decode cX2_told 467 = .ok (.aload_n 0, 1) := dk_42 (dk_at dksX2_told_18 18 rfl rfl)
theorem dX2_told_468 : decode cX2_told 468 = .ok (.getfield 103, 3) := dk_180 0 103 (dk_at dksX2_told_18 19 rfl rfl)
theorem dX2_told_471 : decode cX2_told 471 = .ok (.aload_n 0, 1) := dk_42 (dk_at dksX2_told_18 22 rfl rfl)
theorem dX2_told_472 : decode cX2_told 472 = .ok (.invokevirtual 226, 3) := dk_182 0 226 (dk_at dksX2_told_19 0 rfl rfl)
theorem dX2_told_475 : decode cX2_told 475 = .ok (.putfield 220, 3) := dk_181 0 220 (dk_at dksX2_told_19 3 rfl rfl)
theorem dX2_told_478 : decode cX2_told 478 = .ok (.goto 44, 3) := dk_167 0 44 (dk_at dksX2_told_19 6 rfl rfl)
theorem dX2_told_481 : decode cX2_told 481 = .ok (.aload_n 0, 1) := dk_42 (dk_at dksX2_told_19 9 rfl rfl)
theorem dX2_told_482 : decode cX2_told 482 = .ok (.getfield 103, 3) := dk_180 0 103 (dk_at dksX2_told_19 10 rfl rfl)
theorem dX2_told_485 : decode cX2_told 485 = .ok (.aload_n 0, 1) := dk_42 (dk_at dksX2_told_19 13 rfl rfl)
theorem dX2_told_486 : decode cX2_told 486 = .ok (.iconst 0, 1) := dk_3 (dk_at dksX2_told_19 14 rfl rfl)
theorem dX2_told_487 : decode cX2_told 487 = .ok (.bipush 99, 2) := dk_16 99 (dk_at dksX2_told_19 15 rfl rfl)
theorem dX2_told_489 : decode cX2_told 489 = .ok (.invokevirtual 96, 3) := dk_182 0 96 (dk_at dksX2_told_19 17 rfl rfl)
theorem dX2_told_492 : decode cX2_told 492 = .ok (.putfield 230, 3) := dk_181 0 230 (dk_at dksX2_told_19 20 rfl rfl)
theorem dX2_told_495 : decode cX2_told 495 = .ok (.goto 27, 3) := dk_167 0 27 (dk_at dksX2_told_20 0 rfl rfl)
theorem dX2_told_498 : decode cX2_told 498 = .ok (.aload_n 0, 1) := dk_42 (dk_at dksX2_told_20 3 rfl rfl)
theorem dX2_told_499 : decode cX2_told 499 = .ok (.getfield 103, 3) := dk_180 0 103 (dk_at dksX2_told_20 4 rfl rfl)
theorem dX2_told_502 : decode cX2_told 502 = .ok (.aload_n 0, 1) := dk_42 (dk_at dksX2_told_20 7 rfl rfl)
theorem dX2_told_503 : decode cX2_told 503 = .ok (.iconst 0, 1) := dk_3 (dk_at dksX2_told_20 8 rfl rfl)
theorem dX2_told_504 : decode cX2_told 504 = .ok (.bipush 100, 2) := dk_16 100 (dk_at dksX2_told_20 9 rfl rfl)
theorem dX2_told_506 : decode cX2_told 506 = .ok (.invokevirtual 96, 3) := dk_182 0 96 (dk_at dksX2_told_20 11 rfl rfl)
theorem dX2_told_509 : decode cX2_told 509 = .ok (.putfield 232, 3) := dk_181 0 232 (dk_at dksX2_told_20 14 rfl rfl)
theorem dX2_told_512 : decode cX2_told 512 = .ok (.goto 10, 3) := dk_167 0 10 (dk_at dksX2_told_20 17 rfl rfl)
theorem dX2_told_515 : decode cX2_told 515 = .ok (.aload_n 0, 1) := dk_42 (dk_at dksX2_told_20 20 rfl rfl)
theorem dX2_told_516 : decode cX2_told 516 = .ok (.iconst 1, 1) := dk_4 (dk_at dksX2_told_20 21 rfl rfl)
theorem dX2_told_517 : decode cX2_told 517 = .ok (.iload_n 2, 1) := dk_28 (dk_at dksX2_told_20 22 rfl rfl)
theorem dX2_told_518 : decode cX2_told 518 = .ok (.invokevirtual 47, 3) := dk_182 0 47 (dk_at dksX2_told_21 0 rfl rfl)
theorem dX2_told_521 : decode cX2_told 521 = .ok (.athrow, 1) := dk_191 (dk_at dksX2_told_21 3 rfl rfl)
theorem dX2_told_522 : decode cX2_told 522 = .ok (.return_, 1) := dk_177 (dk_at dksX2_told_21 4 rfl rfl)
abbrev cX2_fresh : ByteArray := prog_19_method_13_code
def yX2_fresh : MethodName := ⟨RX2, "fresh", "()Ljava/lang/String;"⟩
def dkwX2_fresh_1 : List UInt8 := [182, 0, 47, 191, 43, 176]
abbrev dktX2_fresh_1 : List UInt8 := dkwX2_fresh_1 ++ []
def dkwX2_fresh_0 : List UInt8 := [42, 182, 0, 100, 76, 42, 180, 0, 103, 43, 182, 0, 107, 153, 0, 13, 42, 6, 42, 180, 0, 61]
abbrev dktX2_fresh_0 : List UInt8 := dkwX2_fresh_0 ++ dktX2_fresh_1
theorem dksX2_fresh_0 : cX2_fresh.data.toList.drop 0 = dktX2_fresh_0 := by decide +kernel
theorem dksX2_fresh_1 : cX2_fresh.data.toList.drop 22 = dktX2_fresh_1 := dk_seg dksX2_fresh_0 22 rfl rfl
theorem dX2_fresh_0 : decode cX2_fresh 0 = .ok (.aload_n 0, 1) := dk_42 (dk_at dksX2_fresh_0 0 rfl rfl)
theorem dX2_fresh_1 : decode cX2_fresh 1 = .ok (.invokevirtual 100, 3) := dk_182 0 100 (dk_at dksX2_fresh_0 1 rfl rfl)
theorem dX2_fresh_4 : decode cX2_fresh 4 = .ok (.astore_n 1, 1) := dk_76 (dk_at dksX2_fresh_0 4 rfl rfl)
theorem dX2_fresh_5 : decode cX2_fresh 5 = .ok (.aload_n 0, 1) := dk_42 (dk_at dksX2_fresh_0 5 rfl rfl)
theorem dX2_fresh_6 : decode cX2_fresh 6 = .ok (.getfield 103, 3) := dk_180 0 103 (dk_at dksX2_fresh_0 6 rfl rfl)
theorem dX2_fresh_9 : decode cX2_fresh 9 = .ok (.aload_n 1, 1) := dk_43 (dk_at dksX2_fresh_0 9 rfl rfl)
theorem dX2_fresh_10 : decode cX2_fresh 10 = .ok (.invokevirtual 107, 3) := dk_182 0 107 (dk_at dksX2_fresh_0 10 rfl rfl)
theorem dX2_fresh_13 : decode cX2_fresh 13 = .ok (.ifCond .eq 13, 3) := dk_153 0 13 (dk_at dksX2_fresh_0 13 rfl rfl)
theorem dX2_fresh_16 : decode cX2_fresh 16 = .ok (.aload_n 0, 1) := dk_42 (dk_at dksX2_fresh_0 16 rfl rfl)
theorem dX2_fresh_17 : decode cX2_fresh 17 = .ok (.iconst 3, 1) := dk_6 (dk_at dksX2_fresh_0 17 rfl rfl)
theorem dX2_fresh_18 : decode cX2_fresh 18 = .ok (.aload_n 0, 1) := dk_42 (dk_at dksX2_fresh_0 18 rfl rfl)
theorem dX2_fresh_19 : decode cX2_fresh 19 = .ok (.getfield 61, 3) := dk_180 0 61 (dk_at dksX2_fresh_0 19 rfl rfl)
theorem dX2_fresh_22 : decode cX2_fresh 22 = .ok (.invokevirtual 47, 3) := dk_182 0 47 (dk_at dksX2_fresh_1 0 rfl rfl)
theorem dX2_fresh_25 : decode cX2_fresh 25 = .ok (.athrow, 1) := dk_191 (dk_at dksX2_fresh_1 3 rfl rfl)
theorem dX2_fresh_26 : decode cX2_fresh 26 = .ok (.aload_n 1, 1) := dk_43 (dk_at dksX2_fresh_1 4 rfl rfl)
theorem dX2_fresh_27 : decode cX2_fresh 27 = .ok (.areturn, 1) := dk_176 (dk_at dksX2_fresh_1 5 rfl rfl)
abbrev cX2_name : ByteArray := prog_19_method_10_code
def yX2_name : MethodName := ⟨RX2, "name", "()Ljava/lang/String;"⟩
def dkwX2_name_2 : List UInt8 := [182, 0, 47, 191, 43, 176]
abbrev dktX2_name_2 : List UInt8 := dkwX2_name_2 ++ []
def dkwX2_name_1 : List UInt8 := [182, 0, 47, 191, 43, 182, 0, 86, 16, 6, 164, 0, 16, 42, 4, 42, 180, 0, 61, 16, 6, 96]
abbrev dktX2_name_1 : List UInt8 := dkwX2_name_1 ++ dktX2_name_2
def dkwX2_name_0 : List UInt8 := [42, 182, 0, 70, 76, 43, 178, 0, 78, 184, 0, 82, 2, 159, 0, 13, 42, 4, 42, 180, 0, 61]
abbrev dktX2_name_0 : List UInt8 := dkwX2_name_0 ++ dktX2_name_1
theorem dksX2_name_0 : cX2_name.data.toList.drop 0 = dktX2_name_0 := by decide +kernel
theorem dksX2_name_1 : cX2_name.data.toList.drop 22 = dktX2_name_1 := dk_seg dksX2_name_0 22 rfl rfl
theorem dksX2_name_2 : cX2_name.data.toList.drop 44 = dktX2_name_2 := dk_seg dksX2_name_1 22 rfl rfl
theorem dX2_name_0 : decode cX2_name 0 = .ok (.aload_n 0, 1) := dk_42 (dk_at dksX2_name_0 0 rfl rfl)
theorem dX2_name_1 : decode cX2_name 1 = .ok (.invokevirtual 70, 3) := dk_182 0 70 (dk_at dksX2_name_0 1 rfl rfl)
theorem dX2_name_4 : decode cX2_name 4 = .ok (.astore_n 1, 1) := dk_76 (dk_at dksX2_name_0 4 rfl rfl)
theorem dX2_name_5 : decode cX2_name 5 = .ok (.aload_n 1, 1) := dk_43 (dk_at dksX2_name_0 5 rfl rfl)
theorem dX2_name_6 : decode cX2_name 6 = .ok (.getstatic 78, 3) := dk_178 0 78 (dk_at dksX2_name_0 6 rfl rfl)
theorem dX2_name_9 : decode cX2_name 9 = .ok (.invokestatic 82, 3) := dk_184 0 82 (dk_at dksX2_name_0 9 rfl rfl)
theorem dX2_name_12 : decode cX2_name 12 = .ok (.iconst (-1), 1) := dk_2 (dk_at dksX2_name_0 12 rfl rfl)
theorem dX2_name_13 : decode cX2_name 13 = .ok (.if_icmp .eq 13, 3) := dk_159 0 13 (dk_at dksX2_name_0 13 rfl rfl)
theorem dX2_name_16 : decode cX2_name 16 = .ok (.aload_n 0, 1) := dk_42 (dk_at dksX2_name_0 16 rfl rfl)
theorem dX2_name_17 : decode cX2_name 17 = .ok (.iconst 1, 1) := dk_4 (dk_at dksX2_name_0 17 rfl rfl)
theorem dX2_name_18 : decode cX2_name 18 = .ok (.aload_n 0, 1) := dk_42 (dk_at dksX2_name_0 18 rfl rfl)
theorem dX2_name_19 : decode cX2_name 19 = .ok (.getfield 61, 3) := dk_180 0 61 (dk_at dksX2_name_0 19 rfl rfl)
theorem dX2_name_22 : decode cX2_name 22 = .ok (.invokevirtual 47, 3) := dk_182 0 47 (dk_at dksX2_name_1 0 rfl rfl)
theorem dX2_name_25 : decode cX2_name 25 = .ok (.athrow, 1) := dk_191 (dk_at dksX2_name_1 3 rfl rfl)
theorem dX2_name_26 : decode cX2_name 26 = .ok (.aload_n 1, 1) := dk_43 (dk_at dksX2_name_1 4 rfl rfl)
theorem dX2_name_27 : decode cX2_name 27 = .ok (.invokevirtual 86, 3) := dk_182 0 86 (dk_at dksX2_name_1 5 rfl rfl)
theorem dX2_name_30 : decode cX2_name 30 = .ok (.bipush 6, 2) := dk_16 6 (dk_at dksX2_name_1 8 rfl rfl)
theorem dX2_name_32 : decode cX2_name 32 = .ok (.if_icmp .le 16, 3) := dk_164 0 16 (dk_at dksX2_name_1 10 rfl rfl)
theorem dX2_name_35 : decode cX2_name 35 = .ok (.aload_n 0, 1) := dk_42 (dk_at dksX2_name_1 13 rfl rfl)
theorem dX2_name_36 : decode cX2_name 36 = .ok (.iconst 1, 1) := dk_4 (dk_at dksX2_name_1 14 rfl rfl)
theorem dX2_name_37 : decode cX2_name 37 = .ok (.aload_n 0, 1) := dk_42 (dk_at dksX2_name_1 15 rfl rfl)
theorem dX2_name_38 : decode cX2_name 38 = .ok (.getfield 61, 3) := dk_180 0 61 (dk_at dksX2_name_1 16 rfl rfl)
theorem dX2_name_41 : decode cX2_name 41 = .ok (.bipush 6, 2) := dk_16 6 (dk_at dksX2_name_1 19 rfl rfl)
theorem dX2_name_43 : decode cX2_name 43 = .ok (.iadd, 1) := dk_96 (dk_at dksX2_name_1 21 rfl rfl)
theorem dX2_name_44 : decode cX2_name 44 = .ok (.invokevirtual 47, 3) := dk_182 0 47 (dk_at dksX2_name_2 0 rfl rfl)
theorem dX2_name_47 : decode cX2_name 47 = .ok (.athrow, 1) := dk_191 (dk_at dksX2_name_2 3 rfl rfl)
theorem dX2_name_48 : decode cX2_name 48 = .ok (.aload_n 1, 1) := dk_43 (dk_at dksX2_name_2 4 rfl rfl)
theorem dX2_name_49 : decode cX2_name 49 = .ok (.areturn, 1) := dk_176 (dk_at dksX2_name_2 5 rfl rfl)
abbrev cX2_passes : ByteArray := prog_19_method_9_code
def yX2_passes : MethodName := ⟨RX2, "passes", "(Ljava/lang/String;)Z"⟩
def dkwX2_passes_1 : List UInt8 := [182, 0, 74, 153, 0, 5, 4, 172, 42, 28, 181, 0, 36, 3, 172]
abbrev dktX2_passes_1 : List UInt8 := dkwX2_passes_1 ++ []
def dkwX2_passes_0 : List UInt8 := [42, 180, 0, 36, 61, 42, 182, 0, 43, 184, 0, 51, 154, 0, 5, 3, 172, 42, 182, 0, 70, 43]
abbrev dktX2_passes_0 : List UInt8 := dkwX2_passes_0 ++ dktX2_passes_1
theorem dksX2_passes_0 : cX2_passes.data.toList.drop 0 = dktX2_passes_0 := by decide +kernel
theorem dksX2_passes_1 : cX2_passes.data.toList.drop 22 = dktX2_passes_1 := dk_seg dksX2_passes_0 22 rfl rfl
theorem dX2_passes_0 : decode cX2_passes 0 = .ok (.aload_n 0, 1) := dk_42 (dk_at dksX2_passes_0 0 rfl rfl)
theorem dX2_passes_1 : decode cX2_passes 1 = .ok (.getfield 36, 3) := dk_180 0 36 (dk_at dksX2_passes_0 1 rfl rfl)
theorem dX2_passes_4 : decode cX2_passes 4 = .ok (.istore_n 2, 1) := dk_61 (dk_at dksX2_passes_0 4 rfl rfl)
theorem dX2_passes_5 : decode cX2_passes 5 = .ok (.aload_n 0, 1) := dk_42 (dk_at dksX2_passes_0 5 rfl rfl)
theorem dX2_passes_6 : decode cX2_passes 6 = .ok (.invokevirtual 43, 3) := dk_182 0 43 (dk_at dksX2_passes_0 6 rfl rfl)
theorem dX2_passes_9 : decode cX2_passes 9 = .ok (.invokestatic 51, 3) := dk_184 0 51 (dk_at dksX2_passes_0 9 rfl rfl)
theorem dX2_passes_12 : decode cX2_passes 12 = .ok (.ifCond .ne 5, 3) := dk_154 0 5 (dk_at dksX2_passes_0 12 rfl rfl)
theorem dX2_passes_15 : decode cX2_passes 15 = .ok (.iconst 0, 1) := dk_3 (dk_at dksX2_passes_0 15 rfl rfl)
theorem dX2_passes_16 : decode cX2_passes 16 = .ok (.ireturn, 1) := dk_172 (dk_at dksX2_passes_0 16 rfl rfl)
theorem dX2_passes_17 : decode cX2_passes 17 = .ok (.aload_n 0, 1) := dk_42 (dk_at dksX2_passes_0 17 rfl rfl)
theorem dX2_passes_18 : decode cX2_passes 18 = .ok (.invokevirtual 70, 3) := dk_182 0 70 (dk_at dksX2_passes_0 18 rfl rfl)
theorem dX2_passes_21 : decode cX2_passes 21 = .ok (.aload_n 1, 1) := dk_43 (dk_at dksX2_passes_0 21 rfl rfl)
theorem dX2_passes_22 : decode cX2_passes 22 = .ok (.invokevirtual 74, 3) := dk_182 0 74 (dk_at dksX2_passes_1 0 rfl rfl)
theorem dX2_passes_25 : decode cX2_passes 25 = .ok (.ifCond .eq 5, 3) := dk_153 0 5 (dk_at dksX2_passes_1 3 rfl rfl)
theorem dX2_passes_28 : decode cX2_passes 28 = .ok (.iconst 1, 1) := dk_4 (dk_at dksX2_passes_1 6 rfl rfl)
theorem dX2_passes_29 : decode cX2_passes 29 = .ok (.ireturn, 1) := dk_172 (dk_at dksX2_passes_1 7 rfl rfl)
theorem dX2_passes_30 : decode cX2_passes 30 = .ok (.aload_n 0, 1) := dk_42 (dk_at dksX2_passes_1 8 rfl rfl)
theorem dX2_passes_31 : decode cX2_passes 31 = .ok (.iload_n 2, 1) := dk_28 (dk_at dksX2_passes_1 9 rfl rfl)
theorem dX2_passes_32 : decode cX2_passes 32 = .ok (.putfield 36, 3) := dk_181 0 36 (dk_at dksX2_passes_1 10 rfl rfl)
theorem dX2_passes_35 : decode cX2_passes 35 = .ok (.iconst 0, 1) := dk_3 (dk_at dksX2_passes_1 13 rfl rfl)
theorem dX2_passes_36 : decode cX2_passes 36 = .ok (.ireturn, 1) := dk_172 (dk_at dksX2_passes_1 14 rfl rfl)
abbrev cX2_man : ByteArray := prog_19_method_18_code
def yX2_man : MethodName := ⟨RX2, "man", "()V"⟩
def dkwX2_man_4 : List UInt8 := [180, 0, 206, 187, 0, 245, 89, 43, 28, 29, 21, 4, 21, 5, 183, 0, 247, 185, 0, 203, 2, 0, 87, 177]
abbrev dktX2_man_4 : List UInt8 := dkwX2_man_4 ++ []
def dkwX2_man_3 : List UInt8 := [21, 5, 182, 0, 241, 153, 0, 13, 42, 5, 42, 180, 0, 61, 182, 0, 47, 191, 42, 180, 0, 103]
abbrev dktX2_man_3 : List UInt8 := dkwX2_man_3 ++ dktX2_man_4
def dkwX2_man_2 : List UInt8 := [54, 4, 42, 3, 42, 180, 0, 103, 180, 0, 132, 4, 100, 182, 0, 96, 54, 5, 42, 180, 0, 103, 21, 4]
abbrev dktX2_man_2 : List UInt8 := dkwX2_man_2 ++ dktX2_man_3
def dkwX2_man_1 : List UInt8 := [18, 239, 3, 4, 182, 0, 129, 62, 42, 18, 214, 3, 42, 180, 0, 103, 180, 0, 124, 4, 100, 182, 0, 129]
abbrev dktX2_man_1 : List UInt8 := dkwX2_man_1 ++ dktX2_man_2
def dkwX2_man_0 : List UInt8 := [42, 182, 0, 180, 76, 42, 18, 234, 182, 0, 93, 42, 42, 180, 0, 103, 180, 0, 172, 182, 0, 235, 61, 42]
abbrev dktX2_man_0 : List UInt8 := dkwX2_man_0 ++ dktX2_man_1
theorem dksX2_man_0 : cX2_man.data.toList.drop 0 = dktX2_man_0 := by decide +kernel
theorem dksX2_man_1 : cX2_man.data.toList.drop 24 = dktX2_man_1 := dk_seg dksX2_man_0 24 rfl rfl
theorem dksX2_man_2 : cX2_man.data.toList.drop 48 = dktX2_man_2 := dk_seg dksX2_man_1 24 rfl rfl
theorem dksX2_man_3 : cX2_man.data.toList.drop 72 = dktX2_man_3 := dk_seg dksX2_man_2 24 rfl rfl
theorem dksX2_man_4 : cX2_man.data.toList.drop 94 = dktX2_man_4 := dk_seg dksX2_man_3 22 rfl rfl
theorem dX2_man_0 : decode cX2_man 0 = .ok (.aload_n 0, 1) := dk_42 (dk_at dksX2_man_0 0 rfl rfl)
theorem dX2_man_1 : decode cX2_man 1 = .ok (.invokevirtual 180, 3) := dk_182 0 180 (dk_at dksX2_man_0 1 rfl rfl)
theorem dX2_man_4 : decode cX2_man 4 = .ok (.astore_n 1, 1) := dk_76 (dk_at dksX2_man_0 4 rfl rfl)
theorem dX2_man_5 : decode cX2_man 5 = .ok (.aload_n 0, 1) := dk_42 (dk_at dksX2_man_0 5 rfl rfl)
theorem dX2_man_6 : decode cX2_man 6 = .ok (.ldc 234, 2) := dk_18 234 (dk_at dksX2_man_0 6 rfl rfl)
theorem dX2_man_8 : decode cX2_man 8 = .ok (.invokevirtual 93, 3) := dk_182 0 93 (dk_at dksX2_man_0 8 rfl rfl)
theorem dX2_man_11 : decode cX2_man 11 = .ok (.aload_n 0, 1) := dk_42 (dk_at dksX2_man_0 11 rfl rfl)
theorem dX2_man_12 : decode cX2_man 12 = .ok (.aload_n 0, 1) := dk_42 (dk_at dksX2_man_0 12 rfl rfl)
theorem dX2_man_13 : decode cX2_man 13 = .ok (.getfield 103, 3) := dk_180 0 103 (dk_at dksX2_man_0 13 rfl rfl)
theorem dX2_man_16 : decode cX2_man 16 = .ok (.getfield 172, 3) := dk_180 0 172 (dk_at dksX2_man_0 16 rfl rfl)
theorem dX2_man_19 : decode cX2_man 19 = .ok (.invokevirtual 235, 3) := dk_182 0 235 (dk_at dksX2_man_0 19 rfl rfl)
theorem dX2_man_22 : decode cX2_man 22 = .ok (.istore_n 2, 1) := dk_61 (dk_at dksX2_man_0 22 rfl rfl)
theorem dX2_man_23 : decode cX2_man 23 = .ok (.aload_n 0, 1) := dk_42 (dk_at dksX2_man_0 23 rfl rfl)
theorem dX2_man_24 : decode cX2_man 24 = .ok (.ldc 239, 2) := dk_18 239 (dk_at dksX2_man_1 0 rfl rfl)
theorem dX2_man_26 : decode cX2_man 26 = .ok (.iconst 0, 1) := dk_3 (dk_at dksX2_man_1 2 rfl rfl)
theorem dX2_man_27 : decode cX2_man 27 = .ok (.iconst 1, 1) := dk_4 (dk_at dksX2_man_1 3 rfl rfl)
theorem dX2_man_28 : decode cX2_man 28 = .ok (.invokevirtual 129, 3) := dk_182 0 129 (dk_at dksX2_man_1 4 rfl rfl)
theorem dX2_man_31 : decode cX2_man 31 = .ok (.istore_n 3, 1) := dk_62 (dk_at dksX2_man_1 7 rfl rfl)
theorem dX2_man_32 : decode cX2_man 32 = .ok (.aload_n 0, 1) := dk_42 (dk_at dksX2_man_1 8 rfl rfl)
theorem dX2_man_33 : decode cX2_man 33 = .ok (.ldc 214, 2) := dk_18 214 (dk_at dksX2_man_1 9 rfl rfl)
theorem dX2_man_35 : decode cX2_man 35 = .ok (.iconst 0, 1) := dk_3 (dk_at dksX2_man_1 11 rfl rfl)
theorem dX2_man_36 : decode cX2_man 36 = .ok (.aload_n 0, 1) := dk_42 (dk_at dksX2_man_1 12 rfl rfl)
theorem dX2_man_37 : decode cX2_man 37 = .ok (.getfield 103, 3) := dk_180 0 103 (dk_at dksX2_man_1 13 rfl rfl)
theorem dX2_man_40 : decode cX2_man 40 = .ok (.getfield 124, 3) := dk_180 0 124 (dk_at dksX2_man_1 16 rfl rfl)
theorem dX2_man_43 : decode cX2_man 43 = .ok (.iconst 1, 1) := dk_4 (dk_at dksX2_man_1 19 rfl rfl)
theorem dX2_man_44 : decode cX2_man 44 = .ok (.isub, 1) := dk_100 (dk_at dksX2_man_1 20 rfl rfl)
theorem dX2_man_45 : decode cX2_man 45 = .ok (.invokevirtual 129, 3) := dk_182 0 129 (dk_at dksX2_man_1 21 rfl rfl)
theorem dX2_man_48 : decode cX2_man 48 = .ok (.istore 4, 2) := dk_54 4 (dk_at dksX2_man_2 0 rfl rfl)
theorem dX2_man_50 : decode cX2_man 50 = .ok (.aload_n 0, 1) := dk_42 (dk_at dksX2_man_2 2 rfl rfl)
theorem dX2_man_51 : decode cX2_man 51 = .ok (.iconst 0, 1) := dk_3 (dk_at dksX2_man_2 3 rfl rfl)
theorem dX2_man_52 : decode cX2_man 52 = .ok (.aload_n 0, 1) := dk_42 (dk_at dksX2_man_2 4 rfl rfl)
theorem dX2_man_53 : decode cX2_man 53 = .ok (.getfield 103, 3) := dk_180 0 103 (dk_at dksX2_man_2 5 rfl rfl)
theorem dX2_man_56 : decode cX2_man 56 = .ok (.getfield 132, 3) := dk_180 0 132 (dk_at dksX2_man_2 8 rfl rfl)
theorem dX2_man_59 : decode cX2_man 59 = .ok (.iconst 1, 1) := dk_4 (dk_at dksX2_man_2 11 rfl rfl)
theorem dX2_man_60 : decode cX2_man 60 = .ok (.isub, 1) := dk_100 (dk_at dksX2_man_2 12 rfl rfl)
theorem dX2_man_61 : decode cX2_man 61 = .ok (.invokevirtual 96, 3) := dk_182 0 96 (dk_at dksX2_man_2 13 rfl rfl)
theorem dX2_man_64 : decode cX2_man 64 = .ok (.istore 5, 2) := dk_54 5 (dk_at dksX2_man_2 16 rfl rfl)
theorem dX2_man_66 : decode cX2_man 66 = .ok (.aload_n 0, 1) := dk_42 (dk_at dksX2_man_2 18 rfl rfl)
theorem dX2_man_67 : decode cX2_man 67 = .ok (.getfield 103, 3) := dk_180 0 103 (dk_at dksX2_man_2 19 rfl rfl)
theorem dX2_man_70 : decode cX2_man 70 = .ok (.iload 4, 2) := dk_21 4 (dk_at dksX2_man_2 22 rfl rfl)
theorem dX2_man_72 : decode cX2_man 72 = .ok (.iload 5, 2) := dk_21 5 (dk_at dksX2_man_3 0 rfl rfl)
theorem dX2_man_74 : decode cX2_man 74 = .ok (.invokevirtual 241, 3) := dk_182 0 241 (dk_at dksX2_man_3 2 rfl rfl)
theorem dX2_man_77 : decode cX2_man 77 = .ok (.ifCond .eq 13, 3) := dk_153 0 13 (dk_at dksX2_man_3 5 rfl rfl)
theorem dX2_man_80 : decode cX2_man 80 = .ok (.aload_n 0, 1) := dk_42 (dk_at dksX2_man_3 8 rfl rfl)
theorem dX2_man_81 : decode cX2_man 81 = .ok (.iconst 2, 1) := dk_5 (dk_at dksX2_man_3 9 rfl rfl)
theorem dX2_man_82 : decode cX2_man 82 = .ok (.aload_n 0, 1) := dk_42 (dk_at dksX2_man_3 10 rfl rfl)
theorem dX2_man_83 : decode cX2_man 83 = .ok (.getfield 61, 3) := dk_180 0 61 (dk_at dksX2_man_3 11 rfl rfl)
theorem dX2_man_86 : decode cX2_man 86 = .ok (.invokevirtual 47, 3) := dk_182 0 47 (dk_at dksX2_man_3 14 rfl rfl)
theorem dX2_man_89 : decode cX2_man 89 = .ok (.athrow, 1) := dk_191 (dk_at dksX2_man_3 17 rfl rfl)
theorem dX2_man_90 : decode cX2_man 90 = .ok (.aload_n 0, 1) := dk_42 (dk_at dksX2_man_3 18 rfl rfl)
theorem dX2_man_91 : decode cX2_man 91 = .ok (.getfield 103, 3) := dk_180 0 103 (dk_at dksX2_man_3 19 rfl rfl)
theorem dX2_man_94 : decode cX2_man 94 = .ok (.getfield 206, 3) := dk_180 0 206 (dk_at dksX2_man_4 0 rfl rfl)
theorem dX2_man_97 : decode cX2_man 97 = .ok (.new 245, 3) := dk_187 0 245 (dk_at dksX2_man_4 3 rfl rfl)
theorem dX2_man_100 : decode cX2_man 100 = .ok (.dup, 1) := dk_89 (dk_at dksX2_man_4 6 rfl rfl)
theorem dX2_man_101 : decode cX2_man 101 = .ok (.aload_n 1, 1) := dk_43 (dk_at dksX2_man_4 7 rfl rfl)
theorem dX2_man_102 : decode cX2_man 102 = .ok (.iload_n 2, 1) := dk_28 (dk_at dksX2_man_4 8 rfl rfl)
theorem dX2_man_103 : decode cX2_man 103 = .ok (.iload_n 3, 1) := dk_29 (dk_at dksX2_man_4 9 rfl rfl)
theorem dX2_man_104 : decode cX2_man 104 = .ok (.iload 4, 2) := dk_21 4 (dk_at dksX2_man_4 10 rfl rfl)
theorem dX2_man_106 : decode cX2_man 106 = .ok (.iload 5, 2) := dk_21 5 (dk_at dksX2_man_4 12 rfl rfl)
theorem dX2_man_108 : decode cX2_man 108 = .ok (.invokespecial 247, 3) := dk_183 0 247 (dk_at dksX2_man_4 14 rfl rfl)
theorem dX2_man_111 : decode cX2_man 111 = .ok (.invokeinterface 203 2, 5) := by decide +kernel
theorem dX2_man_116 : decode cX2_man 116 = .ok (.pop, 1) := dk_87 (dk_at dksX2_man_4 22 rfl rfl)
theorem dX2_man_117 : decode cX2_man 117 = .ok (.return_, 1) := dk_177 (dk_at dksX2_man_4 23 rfl rfl)
abbrev cX2_known : ByteArray := prog_19_method_14_code
def yX2_known : MethodName := ⟨RX2, "known", "(Ljava/util/List;)I"⟩
def dkwX2_known_1 : List UInt8 := [28, 172]
abbrev dktX2_known_1 : List UInt8 := dkwX2_known_1 ++ []
def dkwX2_known_0 : List UInt8 := [43, 42, 182, 0, 100, 184, 0, 113, 61, 28, 2, 160, 0, 13, 42, 6, 42, 180, 0, 61, 182, 0, 47, 191]
abbrev dktX2_known_0 : List UInt8 := dkwX2_known_0 ++ dktX2_known_1
theorem dksX2_known_0 : cX2_known.data.toList.drop 0 = dktX2_known_0 := by decide +kernel
theorem dksX2_known_1 : cX2_known.data.toList.drop 24 = dktX2_known_1 := dk_seg dksX2_known_0 24 rfl rfl
theorem dX2_known_0 : decode cX2_known 0 = .ok (.aload_n 1, 1) := dk_43 (dk_at dksX2_known_0 0 rfl rfl)
theorem dX2_known_1 : decode cX2_known 1 = .ok (.aload_n 0, 1) := dk_42 (dk_at dksX2_known_0 1 rfl rfl)
theorem dX2_known_2 : decode cX2_known 2 = .ok (.invokevirtual 100, 3) := dk_182 0 100 (dk_at dksX2_known_0 2 rfl rfl)
theorem dX2_known_5 : decode cX2_known 5 = .ok (.invokestatic 113, 3) := dk_184 0 113 (dk_at dksX2_known_0 5 rfl rfl)
theorem dX2_known_8 : decode cX2_known 8 = .ok (.istore_n 2, 1) := dk_61 (dk_at dksX2_known_0 8 rfl rfl)
theorem dX2_known_9 : decode cX2_known 9 = .ok (.iload_n 2, 1) := dk_28 (dk_at dksX2_known_0 9 rfl rfl)
theorem dX2_known_10 : decode cX2_known 10 = .ok (.iconst (-1), 1) := dk_2 (dk_at dksX2_known_0 10 rfl rfl)
theorem dX2_known_11 : decode cX2_known 11 = .ok (.if_icmp .ne 13, 3) := dk_160 0 13 (dk_at dksX2_known_0 11 rfl rfl)
theorem dX2_known_14 : decode cX2_known 14 = .ok (.aload_n 0, 1) := dk_42 (dk_at dksX2_known_0 14 rfl rfl)
theorem dX2_known_15 : decode cX2_known 15 = .ok (.iconst 3, 1) := dk_6 (dk_at dksX2_known_0 15 rfl rfl)
theorem dX2_known_16 : decode cX2_known 16 = .ok (.aload_n 0, 1) := dk_42 (dk_at dksX2_known_0 16 rfl rfl)
theorem dX2_known_17 : decode cX2_known 17 = .ok (.getfield 61, 3) := dk_180 0 61 (dk_at dksX2_known_0 17 rfl rfl)
theorem dX2_known_20 : decode cX2_known 20 = .ok (.invokevirtual 47, 3) := dk_182 0 47 (dk_at dksX2_known_0 20 rfl rfl)
theorem dX2_known_23 : decode cX2_known 23 = .ok (.athrow, 1) := dk_191 (dk_at dksX2_known_0 23 rfl rfl)
theorem dX2_known_24 : decode cX2_known 24 = .ok (.iload_n 2, 1) := dk_28 (dk_at dksX2_known_1 0 rfl rfl)
theorem dX2_known_25 : decode cX2_known 25 = .ok (.ireturn, 1) := dk_172 (dk_at dksX2_known_1 1 rfl rfl)
abbrev cX2_sum : ByteArray := prog_19_method_20_code
def yX2_sum : MethodName := ⟨RX2, "sum", "()LGardenChess$Value;"⟩
def dkwX2_sum_3 : List UInt8 := [167, 255, 206, 43, 176]
abbrev dktX2_sum_3 : List UInt8 := dkwX2_sum_3 ++ []
def dkwX2_sum_2 : List UInt8 := [16, 45, 182, 1, 3, 153, 0, 16, 43, 16, 45, 42, 182, 0, 253, 182, 1, 0, 167, 255, 211, 3, 61]
abbrev dktX2_sum_2 : List UInt8 := dkwX2_sum_2 ++ dktX2_sum_3
def dkwX2_sum_1 : List UInt8 := [42, 16, 43, 182, 1, 3, 153, 0, 16, 43, 16, 43, 42, 182, 0, 253, 182, 1, 0, 167, 255, 233, 42]
abbrev dktX2_sum_1 : List UInt8 := dkwX2_sum_1 ++ dktX2_sum_2
def dkwX2_sum_0 : List UInt8 := [187, 0, 250, 89, 183, 0, 252, 76, 43, 16, 43, 42, 182, 0, 253, 182, 1, 0, 4, 61, 28, 153, 0, 52]
abbrev dktX2_sum_0 : List UInt8 := dkwX2_sum_0 ++ dktX2_sum_1
theorem dksX2_sum_0 : cX2_sum.data.toList.drop 0 = dktX2_sum_0 := by decide +kernel
theorem dksX2_sum_1 : cX2_sum.data.toList.drop 24 = dktX2_sum_1 := dk_seg dksX2_sum_0 24 rfl rfl
theorem dksX2_sum_2 : cX2_sum.data.toList.drop 47 = dktX2_sum_2 := dk_seg dksX2_sum_1 23 rfl rfl
theorem dksX2_sum_3 : cX2_sum.data.toList.drop 70 = dktX2_sum_3 := dk_seg dksX2_sum_2 23 rfl rfl
theorem dX2_sum_0 : decode cX2_sum 0 = .ok (.new 250, 3) := dk_187 0 250 (dk_at dksX2_sum_0 0 rfl rfl)
theorem dX2_sum_3 : decode cX2_sum 3 = .ok (.dup, 1) := dk_89 (dk_at dksX2_sum_0 3 rfl rfl)
theorem dX2_sum_4 : decode cX2_sum 4 = .ok (.invokespecial 252, 3) := dk_183 0 252 (dk_at dksX2_sum_0 4 rfl rfl)
theorem dX2_sum_7 : decode cX2_sum 7 = .ok (.astore_n 1, 1) := dk_76 (dk_at dksX2_sum_0 7 rfl rfl)
theorem dX2_sum_8 : decode cX2_sum 8 = .ok (.aload_n 1, 1) := dk_43 (dk_at dksX2_sum_0 8 rfl rfl)
theorem dX2_sum_9 : decode cX2_sum 9 = .ok (.bipush 43, 2) := dk_16 43 (dk_at dksX2_sum_0 9 rfl rfl)
theorem dX2_sum_11 : decode cX2_sum 11 = .ok (.aload_n 0, 1) := dk_42 (dk_at dksX2_sum_0 11 rfl rfl)
theorem dX2_sum_12 : decode cX2_sum 12 = .ok (.invokevirtual 253, 3) := dk_182 0 253 (dk_at dksX2_sum_0 12 rfl rfl)
theorem dX2_sum_15 : decode cX2_sum 15 = .ok (.invokevirtual 256, 3) := dk_182 1 0 (dk_at dksX2_sum_0 15 rfl rfl)
theorem dX2_sum_18 : decode cX2_sum 18 = .ok (.iconst 1, 1) := dk_4 (dk_at dksX2_sum_0 18 rfl rfl)
theorem dX2_sum_19 : decode cX2_sum 19 = .ok (.istore_n 2, 1) := dk_61 (dk_at dksX2_sum_0 19 rfl rfl)
theorem dX2_sum_20 : decode cX2_sum 20 = .ok (.iload_n 2, 1) := dk_28 (dk_at dksX2_sum_0 20 rfl rfl)
theorem dX2_sum_21 : decode cX2_sum 21 = .ok (.ifCond .eq 52, 3) := dk_153 0 52 (dk_at dksX2_sum_0 21 rfl rfl)
theorem dX2_sum_24 : decode cX2_sum 24 = .ok (.aload_n 0, 1) := dk_42 (dk_at dksX2_sum_1 0 rfl rfl)
theorem dX2_sum_25 : decode cX2_sum 25 = .ok (.bipush 43, 2) := dk_16 43 (dk_at dksX2_sum_1 1 rfl rfl)
theorem dX2_sum_27 : decode cX2_sum 27 = .ok (.invokevirtual 259, 3) := dk_182 1 3 (dk_at dksX2_sum_1 3 rfl rfl)
theorem dX2_sum_30 : decode cX2_sum 30 = .ok (.ifCond .eq 16, 3) := dk_153 0 16 (dk_at dksX2_sum_1 6 rfl rfl)
theorem dX2_sum_33 : decode cX2_sum 33 = .ok (.aload_n 1, 1) := dk_43 (dk_at dksX2_sum_1 9 rfl rfl)
theorem dX2_sum_34 : decode cX2_sum 34 = .ok (.bipush 43, 2) := dk_16 43 (dk_at dksX2_sum_1 10 rfl rfl)
theorem dX2_sum_36 : decode cX2_sum 36 = .ok (.aload_n 0, 1) := dk_42 (dk_at dksX2_sum_1 12 rfl rfl)
theorem dX2_sum_37 : decode cX2_sum 37 = .ok (.invokevirtual 253, 3) := dk_182 0 253 (dk_at dksX2_sum_1 13 rfl rfl)
theorem dX2_sum_40 : decode cX2_sum 40 = .ok (.invokevirtual 256, 3) := dk_182 1 0 (dk_at dksX2_sum_1 16 rfl rfl)
theorem dX2_sum_43 : decode cX2_sum 43 = .ok (.goto (-23), 3) := dk_167 255 233 (dk_at dksX2_sum_1 19 rfl rfl)
theorem dX2_sum_46 : decode cX2_sum 46 = .ok (.aload_n 0, 1) := dk_42 (dk_at dksX2_sum_1 22 rfl rfl)
theorem dX2_sum_47 : decode cX2_sum 47 = .ok (.bipush 45, 2) := dk_16 45 (dk_at dksX2_sum_2 0 rfl rfl)
theorem dX2_sum_49 : decode cX2_sum 49 = .ok (.invokevirtual 259, 3) := dk_182 1 3 (dk_at dksX2_sum_2 2 rfl rfl)
theorem dX2_sum_52 : decode cX2_sum 52 = .ok (.ifCond .eq 16, 3) := dk_153 0 16 (dk_at dksX2_sum_2 5 rfl rfl)
theorem dX2_sum_55 : decode cX2_sum 55 = .ok (.aload_n 1, 1) := dk_43 (dk_at dksX2_sum_2 8 rfl rfl)
theorem dX2_sum_56 : decode cX2_sum 56 = .ok (.bipush 45, 2) := dk_16 45 (dk_at dksX2_sum_2 9 rfl rfl)
theorem dX2_sum_58 : decode cX2_sum 58 = .ok (.aload_n 0, 1) := dk_42 (dk_at dksX2_sum_2 11 rfl rfl)
theorem dX2_sum_59 : decode cX2_sum 59 = .ok (.invokevirtual 253, 3) := dk_182 0 253 (dk_at dksX2_sum_2 12 rfl rfl)
theorem dX2_sum_62 : decode cX2_sum 62 = .ok (.invokevirtual 256, 3) := dk_182 1 0 (dk_at dksX2_sum_2 15 rfl rfl)
theorem dX2_sum_65 : decode cX2_sum 65 = .ok (.goto (-45), 3) := dk_167 255 211 (dk_at dksX2_sum_2 18 rfl rfl)
theorem dX2_sum_68 : decode cX2_sum 68 = .ok (.iconst 0, 1) := dk_3 (dk_at dksX2_sum_2 21 rfl rfl)
theorem dX2_sum_69 : decode cX2_sum 69 = .ok (.istore_n 2, 1) := dk_61 (dk_at dksX2_sum_2 22 rfl rfl)
theorem dX2_sum_70 : decode cX2_sum 70 = .ok (.goto (-50), 3) := dk_167 255 206 (dk_at dksX2_sum_3 0 rfl rfl)
theorem dX2_sum_73 : decode cX2_sum 73 = .ok (.aload_n 1, 1) := dk_43 (dk_at dksX2_sum_3 3 rfl rfl)
theorem dX2_sum_74 : decode cX2_sum 74 = .ok (.areturn, 1) := dk_176 (dk_at dksX2_sum_3 4 rfl rfl)
abbrev cX2_product : ByteArray := prog_19_method_21_code
def yX2_product : MethodName := ⟨RX2, "product", "()LGardenChess$Value;"⟩
def dkwX2_product_3 : List UInt8 := [167, 255, 206, 43, 176]
abbrev dktX2_product_3 : List UInt8 := dkwX2_product_3 ++ []
def dkwX2_product_2 : List UInt8 := [16, 47, 182, 1, 3, 153, 0, 16, 43, 16, 47, 42, 182, 1, 6, 182, 1, 0, 167, 255, 211, 3, 61]
abbrev dktX2_product_2 : List UInt8 := dkwX2_product_2 ++ dktX2_product_3
def dkwX2_product_1 : List UInt8 := [42, 16, 42, 182, 1, 3, 153, 0, 16, 43, 16, 42, 42, 182, 1, 6, 182, 1, 0, 167, 255, 233, 42]
abbrev dktX2_product_1 : List UInt8 := dkwX2_product_1 ++ dktX2_product_2
def dkwX2_product_0 : List UInt8 := [187, 0, 250, 89, 183, 0, 252, 76, 43, 16, 42, 42, 182, 1, 6, 182, 1, 0, 4, 61, 28, 153, 0, 52]
abbrev dktX2_product_0 : List UInt8 := dkwX2_product_0 ++ dktX2_product_1
theorem dksX2_product_0 : cX2_product.data.toList.drop 0 = dktX2_product_0 := by decide +kernel
theorem dksX2_product_1 : cX2_product.data.toList.drop 24 = dktX2_product_1 := dk_seg dksX2_product_0 24 rfl rfl
theorem dksX2_product_2 : cX2_product.data.toList.drop 47 = dktX2_product_2 := dk_seg dksX2_product_1 23 rfl rfl
theorem dksX2_product_3 : cX2_product.data.toList.drop 70 = dktX2_product_3 := dk_seg dksX2_product_2 23 rfl rfl
theorem dX2_product_0 : decode cX2_product 0 = .ok (.new 250, 3) := dk_187 0 250 (dk_at dksX2_product_0 0 rfl rfl)
theorem dX2_product_3 : decode cX2_product 3 = .ok (.dup, 1) := dk_89 (dk_at dksX2_product_0 3 rfl rfl)
theorem dX2_product_4 : decode cX2_product 4 = .ok (.invokespecial 252, 3) := dk_183 0 252 (dk_at dksX2_product_0 4 rfl rfl)
theorem dX2_product_7 : decode cX2_product 7 = .ok (.astore_n 1, 1) := dk_76 (dk_at dksX2_product_0 7 rfl rfl)
theorem dX2_product_8 : decode cX2_product 8 = .ok (.aload_n 1, 1) := dk_43 (dk_at dksX2_product_0 8 rfl rfl)
theorem dX2_product_9 : decode cX2_product 9 = .ok (.bipush 42, 2) := dk_16 42 (dk_at dksX2_product_0 9 rfl rfl)
theorem dX2_product_11 : decode cX2_product 11 = .ok (.aload_n 0, 1) := dk_42 (dk_at dksX2_product_0 11 rfl rfl)
theorem dX2_product_12 : decode cX2_product 12 = .ok (.invokevirtual 262, 3) := dk_182 1 6 (dk_at dksX2_product_0 12 rfl rfl)
theorem dX2_product_15 : decode cX2_product 15 = .ok (.invokevirtual 256, 3) := dk_182 1 0 (dk_at dksX2_product_0 15 rfl rfl)
theorem dX2_product_18 : decode cX2_product 18 = .ok (.iconst 1, 1) := dk_4 (dk_at dksX2_product_0 18 rfl rfl)
theorem dX2_product_19 : decode cX2_product 19 = .ok (.istore_n 2, 1) := dk_61 (dk_at dksX2_product_0 19 rfl rfl)
theorem dX2_product_20 : decode cX2_product 20 = .ok (.iload_n 2, 1) := dk_28 (dk_at dksX2_product_0 20 rfl rfl)
theorem dX2_product_21 : decode cX2_product 21 = .ok (.ifCond .eq 52, 3) := dk_153 0 52 (dk_at dksX2_product_0 21 rfl rfl)
theorem dX2_product_24 : decode cX2_product 24 = .ok (.aload_n 0, 1) := dk_42 (dk_at dksX2_product_1 0 rfl rfl)
theorem dX2_product_25 : decode cX2_product 25 = .ok (.bipush 42, 2) := dk_16 42 (dk_at dksX2_product_1 1 rfl rfl)
theorem dX2_product_27 : decode cX2_product 27 = .ok (.invokevirtual 259, 3) := dk_182 1 3 (dk_at dksX2_product_1 3 rfl rfl)
theorem dX2_product_30 : decode cX2_product 30 = .ok (.ifCond .eq 16, 3) := dk_153 0 16 (dk_at dksX2_product_1 6 rfl rfl)
theorem dX2_product_33 : decode cX2_product 33 = .ok (.aload_n 1, 1) := dk_43 (dk_at dksX2_product_1 9 rfl rfl)
theorem dX2_product_34 : decode cX2_product 34 = .ok (.bipush 42, 2) := dk_16 42 (dk_at dksX2_product_1 10 rfl rfl)
theorem dX2_product_36 : decode cX2_product 36 = .ok (.aload_n 0, 1) := dk_42 (dk_at dksX2_product_1 12 rfl rfl)
theorem dX2_product_37 : decode cX2_product 37 = .ok (.invokevirtual 262, 3) := dk_182 1 6 (dk_at dksX2_product_1 13 rfl rfl)
theorem dX2_product_40 : decode cX2_product 40 = .ok (.invokevirtual 256, 3) := dk_182 1 0 (dk_at dksX2_product_1 16 rfl rfl)
theorem dX2_product_43 : decode cX2_product 43 = .ok (.goto (-23), 3) := dk_167 255 233 (dk_at dksX2_product_1 19 rfl rfl)
theorem dX2_product_46 : decode cX2_product 46 = .ok (.aload_n 0, 1) := dk_42 (dk_at dksX2_product_1 22 rfl rfl)
theorem dX2_product_47 : decode cX2_product 47 = .ok (.bipush 47, 2) := dk_16 47 (dk_at dksX2_product_2 0 rfl rfl)
theorem dX2_product_49 : decode cX2_product 49 = .ok (.invokevirtual 259, 3) := dk_182 1 3 (dk_at dksX2_product_2 2 rfl rfl)
theorem dX2_product_52 : decode cX2_product 52 = .ok (.ifCond .eq 16, 3) := dk_153 0 16 (dk_at dksX2_product_2 5 rfl rfl)
theorem dX2_product_55 : decode cX2_product 55 = .ok (.aload_n 1, 1) := dk_43 (dk_at dksX2_product_2 8 rfl rfl)
theorem dX2_product_56 : decode cX2_product 56 = .ok (.bipush 47, 2) := dk_16 47 (dk_at dksX2_product_2 9 rfl rfl)
theorem dX2_product_58 : decode cX2_product 58 = .ok (.aload_n 0, 1) := dk_42 (dk_at dksX2_product_2 11 rfl rfl)
theorem dX2_product_59 : decode cX2_product 59 = .ok (.invokevirtual 262, 3) := dk_182 1 6 (dk_at dksX2_product_2 12 rfl rfl)
theorem dX2_product_62 : decode cX2_product 62 = .ok (.invokevirtual 256, 3) := dk_182 1 0 (dk_at dksX2_product_2 15 rfl rfl)
theorem dX2_product_65 : decode cX2_product 65 = .ok (.goto (-45), 3) := dk_167 255 211 (dk_at dksX2_product_2 18 rfl rfl)
theorem dX2_product_68 : decode cX2_product 68 = .ok (.iconst 0, 1) := dk_3 (dk_at dksX2_product_2 21 rfl rfl)
theorem dX2_product_69 : decode cX2_product 69 = .ok (.istore_n 2, 1) := dk_61 (dk_at dksX2_product_2 22 rfl rfl)
theorem dX2_product_70 : decode cX2_product 70 = .ok (.goto (-50), 3) := dk_167 255 206 (dk_at dksX2_product_3 0 rfl rfl)
theorem dX2_product_73 : decode cX2_product 73 = .ok (.aload_n 1, 1) := dk_43 (dk_at dksX2_product_3 3 rfl rfl)
theorem dX2_product_74 : decode cX2_product 74 = .ok (.areturn, 1) := dk_176 (dk_at dksX2_product_3 4 rfl rfl)
abbrev cX2_atom : ByteArray := prog_19_method_24_code
def yX2_atom : MethodName := ⟨RX2, "atom", "()LGardenChess$Value;"⟩
def dkwX2_atom_7 : List UInt8 := [182, 1, 17, 176]
abbrev dktX2_atom_7 : List UInt8 := dkwX2_atom_7 ++ []
def dkwX2_atom_6 : List UInt8 := [180, 0, 61, 182, 0, 47, 191, 42, 43, 19, 1, 42, 182, 0, 74, 153, 0, 7, 4, 167, 0, 4, 5]
abbrev dktX2_atom_6 : List UInt8 := dkwX2_atom_6 ++ dktX2_atom_7
def dkwX2_atom_5 : List UInt8 := [19, 1, 42, 182, 0, 74, 154, 0, 23, 43, 19, 1, 44, 182, 0, 74, 154, 0, 13, 42, 4, 42]
abbrev dktX2_atom_5 : List UInt8 := dkwX2_atom_5 ++ dktX2_atom_6
def dkwX2_atom_4 : List UInt8 := [178, 1, 36, 184, 0, 82, 167, 0, 4, 2, 61, 28, 2, 159, 0, 9, 42, 28, 182, 1, 39, 176, 43]
abbrev dktX2_atom_4 : List UInt8 := dkwX2_atom_4 ++ dktX2_atom_5
def dkwX2_atom_3 : List UInt8 := [153, 0, 12, 187, 1, 32, 89, 28, 183, 1, 34, 176, 42, 180, 0, 223, 17, 7, 248, 160, 0, 13, 43]
abbrev dktX2_atom_3 : List UInt8 := dkwX2_atom_3 ++ dktX2_atom_4
def dkwX2_atom_2 : List UInt8 := [76, 43, 178, 1, 26, 184, 0, 82, 61, 28, 2, 159, 0, 23, 42, 180, 0, 223, 28, 184, 1, 29]
abbrev dktX2_atom_2 : List UInt8 := dkwX2_atom_2 ++ dktX2_atom_3
def dkwX2_atom_1 : List UInt8 := [153, 0, 20, 187, 1, 21, 89, 42, 3, 17, 39, 15, 182, 0, 96, 133, 183, 1, 23, 176, 42, 182, 0, 70]
abbrev dktX2_atom_1 : List UInt8 := dkwX2_atom_1 ++ dktX2_atom_2
def dkwX2_atom_0 : List UInt8 := [42, 182, 0, 43, 16, 40, 160, 0, 9, 42, 3, 182, 1, 17, 176, 42, 182, 0, 43, 184, 0, 55]
abbrev dktX2_atom_0 : List UInt8 := dkwX2_atom_0 ++ dktX2_atom_1
theorem dksX2_atom_0 : cX2_atom.data.toList.drop 0 = dktX2_atom_0 := by decide +kernel
theorem dksX2_atom_1 : cX2_atom.data.toList.drop 22 = dktX2_atom_1 := dk_seg dksX2_atom_0 22 rfl rfl
theorem dksX2_atom_2 : cX2_atom.data.toList.drop 46 = dktX2_atom_2 := dk_seg dksX2_atom_1 24 rfl rfl
theorem dksX2_atom_3 : cX2_atom.data.toList.drop 68 = dktX2_atom_3 := dk_seg dksX2_atom_2 22 rfl rfl
theorem dksX2_atom_4 : cX2_atom.data.toList.drop 91 = dktX2_atom_4 := dk_seg dksX2_atom_3 23 rfl rfl
theorem dksX2_atom_5 : cX2_atom.data.toList.drop 114 = dktX2_atom_5 := dk_seg dksX2_atom_4 23 rfl rfl
theorem dksX2_atom_6 : cX2_atom.data.toList.drop 136 = dktX2_atom_6 := dk_seg dksX2_atom_5 22 rfl rfl
theorem dksX2_atom_7 : cX2_atom.data.toList.drop 159 = dktX2_atom_7 := dk_seg dksX2_atom_6 23 rfl rfl
theorem dX2_atom_0 : decode cX2_atom 0 = .ok (.aload_n 0, 1) := dk_42 (dk_at dksX2_atom_0 0 rfl rfl)
theorem dX2_atom_1 : decode cX2_atom 1 = .ok (.invokevirtual 43, 3) := dk_182 0 43 (dk_at dksX2_atom_0 1 rfl rfl)
theorem dX2_atom_4 : decode cX2_atom 4 = .ok (.bipush 40, 2) := dk_16 40 (dk_at dksX2_atom_0 4 rfl rfl)
theorem dX2_atom_6 : decode cX2_atom 6 = .ok (.if_icmp .ne 9, 3) := dk_160 0 9 (dk_at dksX2_atom_0 6 rfl rfl)
theorem dX2_atom_9 : decode cX2_atom 9 = .ok (.aload_n 0, 1) := dk_42 (dk_at dksX2_atom_0 9 rfl rfl)
theorem dX2_atom_10 : decode cX2_atom 10 = .ok (.iconst 0, 1) := dk_3 (dk_at dksX2_atom_0 10 rfl rfl)
theorem dX2_atom_11 : decode cX2_atom 11 = .ok (.invokevirtual 273, 3) := dk_182 1 17 (dk_at dksX2_atom_0 11 rfl rfl)
theorem dX2_atom_14 : decode cX2_atom 14 = .ok (.areturn, 1) := dk_176 (dk_at dksX2_atom_0 14 rfl rfl)
theorem dX2_atom_15 : decode cX2_atom 15 = .ok (.aload_n 0, 1) := dk_42 (dk_at dksX2_atom_0 15 rfl rfl)
theorem dX2_atom_16 : decode cX2_atom 16 = .ok (.invokevirtual 43, 3) := dk_182 0 43 (dk_at dksX2_atom_0 16 rfl rfl)
theorem dX2_atom_19 : decode cX2_atom 19 = .ok (.invokestatic 55, 3) := dk_184 0 55 (dk_at dksX2_atom_0 19 rfl rfl)
theorem dX2_atom_22 : decode cX2_atom 22 = .ok (.ifCond .eq 20, 3) := dk_153 0 20 (dk_at dksX2_atom_1 0 rfl rfl)
theorem dX2_atom_25 : decode cX2_atom 25 = .ok (.new 277, 3) := dk_187 1 21 (dk_at dksX2_atom_1 3 rfl rfl)
theorem dX2_atom_28 : decode cX2_atom 28 = .ok (.dup, 1) := dk_89 (dk_at dksX2_atom_1 6 rfl rfl)
theorem dX2_atom_29 : decode cX2_atom 29 = .ok (.aload_n 0, 1) := dk_42 (dk_at dksX2_atom_1 7 rfl rfl)
theorem dX2_atom_30 : decode cX2_atom 30 = .ok (.iconst 0, 1) := dk_3 (dk_at dksX2_atom_1 8 rfl rfl)
theorem dX2_atom_31 : decode cX2_atom 31 = .ok (.sipush 9999, 3) := dk_17 39 15 (dk_at dksX2_atom_1 9 rfl rfl)
theorem dX2_atom_34 : decode cX2_atom 34 = .ok (.invokevirtual 96, 3) := dk_182 0 96 (dk_at dksX2_atom_1 12 rfl rfl)
theorem dX2_atom_37 : decode cX2_atom 37 = .ok (.i2l, 1) := dk_133 (dk_at dksX2_atom_1 15 rfl rfl)
theorem dX2_atom_38 : decode cX2_atom 38 = .ok (.invokespecial 279, 3) := dk_183 1 23 (dk_at dksX2_atom_1 16 rfl rfl)
theorem dX2_atom_41 : decode cX2_atom 41 = .ok (.areturn, 1) := dk_176 (dk_at dksX2_atom_1 19 rfl rfl)
theorem dX2_atom_42 : decode cX2_atom 42 = .ok (.aload_n 0, 1) := dk_42 (dk_at dksX2_atom_1 20 rfl rfl)
theorem dX2_atom_43 : decode cX2_atom 43 = .ok (.invokevirtual 70, 3) := dk_182 0 70 (dk_at dksX2_atom_1 21 rfl rfl)
theorem dX2_atom_46 : decode cX2_atom 46 = .ok (.astore_n 1, 1) := dk_76 (dk_at dksX2_atom_2 0 rfl rfl)
theorem dX2_atom_47 : decode cX2_atom 47 = .ok (.aload_n 1, 1) := dk_43 (dk_at dksX2_atom_2 1 rfl rfl)
theorem dX2_atom_48 : decode cX2_atom 48 = .ok (.getstatic 282, 3) := dk_178 1 26 (dk_at dksX2_atom_2 2 rfl rfl)
theorem dX2_atom_51 : decode cX2_atom 51 = .ok (.invokestatic 82, 3) := dk_184 0 82 (dk_at dksX2_atom_2 5 rfl rfl)
theorem dX2_atom_54 : decode cX2_atom 54 = .ok (.istore_n 2, 1) := dk_61 (dk_at dksX2_atom_2 8 rfl rfl)
theorem dX2_atom_55 : decode cX2_atom 55 = .ok (.iload_n 2, 1) := dk_28 (dk_at dksX2_atom_2 9 rfl rfl)
theorem dX2_atom_56 : decode cX2_atom 56 = .ok (.iconst (-1), 1) := dk_2 (dk_at dksX2_atom_2 10 rfl rfl)
theorem dX2_atom_57 : decode cX2_atom 57 = .ok (.if_icmp .eq 23, 3) := dk_159 0 23 (dk_at dksX2_atom_2 11 rfl rfl)
theorem dX2_atom_60 : decode cX2_atom 60 = .ok (.aload_n 0, 1) := dk_42 (dk_at dksX2_atom_2 14 rfl rfl)
theorem dX2_atom_61 : decode cX2_atom 61 = .ok (.getfield 223, 3) := dk_180 0 223 (dk_at dksX2_atom_2 15 rfl rfl)
theorem dX2_atom_64 : decode cX2_atom 64 = .ok (.iload_n 2, 1) := dk_28 (dk_at dksX2_atom_2 18 rfl rfl)
theorem dX2_atom_65 : decode cX2_atom 65 = .ok (.invokestatic 285, 3) := dk_184 1 29 (dk_at dksX2_atom_2 19 rfl rfl)
theorem dX2_atom_68 : decode cX2_atom 68 = .ok (.ifCond .eq 12, 3) := dk_153 0 12 (dk_at dksX2_atom_3 0 rfl rfl)
theorem dX2_atom_71 : decode cX2_atom 71 = .ok (.new 288, 3) := dk_187 1 32 (dk_at dksX2_atom_3 3 rfl rfl)
theorem dX2_atom_74 : decode cX2_atom 74 = .ok (.dup, 1) := dk_89 (dk_at dksX2_atom_3 6 rfl rfl)
theorem dX2_atom_75 : decode cX2_atom 75 = .ok (.iload_n 2, 1) := dk_28 (dk_at dksX2_atom_3 7 rfl rfl)
theorem dX2_atom_76 : decode cX2_atom 76 = .ok (.invokespecial 290, 3) := dk_183 1 34 (dk_at dksX2_atom_3 8 rfl rfl)
theorem dX2_atom_79 : decode cX2_atom 79 = .ok (.areturn, 1) := dk_176 (dk_at dksX2_atom_3 11 rfl rfl)
theorem dX2_atom_80 : decode cX2_atom 80 = .ok (.aload_n 0, 1) := dk_42 (dk_at dksX2_atom_3 12 rfl rfl)
theorem dX2_atom_81 : decode cX2_atom 81 = .ok (.getfield 223, 3) := dk_180 0 223 (dk_at dksX2_atom_3 13 rfl rfl)
theorem dX2_atom_84 : decode cX2_atom 84 = .ok (.sipush 2040, 3) := dk_17 7 248 (dk_at dksX2_atom_3 16 rfl rfl)
theorem dX2_atom_87 : decode cX2_atom 87 = .ok (.if_icmp .ne 13, 3) := dk_160 0 13 (dk_at dksX2_atom_3 19 rfl rfl)
theorem dX2_atom_90 : decode cX2_atom 90 = .ok (.aload_n 1, 1) := dk_43 (dk_at dksX2_atom_3 22 rfl rfl)
theorem dX2_atom_91 : decode cX2_atom 91 = .ok (.getstatic 292, 3) := dk_178 1 36 (dk_at dksX2_atom_4 0 rfl rfl)
theorem dX2_atom_94 : decode cX2_atom 94 = .ok (.invokestatic 82, 3) := dk_184 0 82 (dk_at dksX2_atom_4 3 rfl rfl)
theorem dX2_atom_97 : decode cX2_atom 97 = .ok (.goto 4, 3) := dk_167 0 4 (dk_at dksX2_atom_4 6 rfl rfl)
theorem dX2_atom_100 : decode cX2_atom 100 = .ok (.iconst (-1), 1) := dk_2 (dk_at dksX2_atom_4 9 rfl rfl)
theorem dX2_atom_101 : decode cX2_atom 101 = .ok (.istore_n 2, 1) := dk_61 (dk_at dksX2_atom_4 10 rfl rfl)
theorem dX2_atom_102 : decode cX2_atom 102 = .ok (.iload_n 2, 1) := dk_28 (dk_at dksX2_atom_4 11 rfl rfl)
theorem dX2_atom_103 : decode cX2_atom 103 = .ok (.iconst (-1), 1) := dk_2 (dk_at dksX2_atom_4 12 rfl rfl)
theorem dX2_atom_104 : decode cX2_atom 104 = .ok (.if_icmp .eq 9, 3) := dk_159 0 9 (dk_at dksX2_atom_4 13 rfl rfl)
theorem dX2_atom_107 : decode cX2_atom 107 = .ok (.aload_n 0, 1) := dk_42 (dk_at dksX2_atom_4 16 rfl rfl)
theorem dX2_atom_108 : decode cX2_atom 108 = .ok (.iload_n 2, 1) := dk_28 (dk_at dksX2_atom_4 17 rfl rfl)
theorem dX2_atom_109 : decode cX2_atom 109 = .ok (.invokevirtual 295, 3) := dk_182 1 39 (dk_at dksX2_atom_4 18 rfl rfl)
theorem dX2_atom_112 : decode cX2_atom 112 = .ok (.areturn, 1) := dk_176 (dk_at dksX2_atom_4 21 rfl rfl)
theorem dX2_atom_113 : decode cX2_atom 113 = .ok (.aload_n 1, 1) := dk_43 (dk_at dksX2_atom_4 22 rfl rfl)
theorem dX2_atom_114 : decode cX2_atom 114 = .ok (.ldc_w 298, 3) := dk_19 1 42 (dk_at dksX2_atom_5 0 rfl rfl)
theorem dX2_atom_117 : decode cX2_atom 117 = .ok (.invokevirtual 74, 3) := dk_182 0 74 (dk_at dksX2_atom_5 3 rfl rfl)
theorem dX2_atom_120 : decode cX2_atom 120 = .ok (.ifCond .ne 23, 3) := dk_154 0 23 (dk_at dksX2_atom_5 6 rfl rfl)
theorem dX2_atom_123 : decode cX2_atom 123 = .ok (.aload_n 1, 1) := dk_43 (dk_at dksX2_atom_5 9 rfl rfl)
theorem dX2_atom_124 : decode cX2_atom 124 = .ok (.ldc_w 300, 3) := dk_19 1 44 (dk_at dksX2_atom_5 10 rfl rfl)
theorem dX2_atom_127 : decode cX2_atom 127 = .ok (.invokevirtual 74, 3) := dk_182 0 74 (dk_at dksX2_atom_5 13 rfl rfl)
theorem dX2_atom_130 : decode cX2_atom 130 = .ok (.ifCond .ne 13, 3) := dk_154 0 13 (dk_at dksX2_atom_5 16 rfl rfl)
theorem dX2_atom_133 : decode cX2_atom 133 = .ok (.aload_n 0, 1) := dk_42 (dk_at dksX2_atom_5 19 rfl rfl)
theorem dX2_atom_134 : decode cX2_atom 134 = .ok (.iconst 1, 1) := dk_4 (dk_at dksX2_atom_5 20 rfl rfl)
theorem dX2_atom_135 : decode cX2_atom 135 = .ok (.aload_n 0, 1) := dk_42 (dk_at dksX2_atom_5 21 rfl rfl)
theorem dX2_atom_136 : decode cX2_atom 136 = .ok (.getfield 61, 3) := dk_180 0 61 (dk_at dksX2_atom_6 0 rfl rfl)
theorem dX2_atom_139 : decode cX2_atom 139 = .ok (.invokevirtual 47, 3) := dk_182 0 47 (dk_at dksX2_atom_6 3 rfl rfl)
theorem dX2_atom_142 : decode cX2_atom 142 = .ok (.athrow, 1) := dk_191 (dk_at dksX2_atom_6 6 rfl rfl)
theorem dX2_atom_143 : decode cX2_atom 143 = .ok (.aload_n 0, 1) := dk_42 (dk_at dksX2_atom_6 7 rfl rfl)
theorem dX2_atom_144 : decode cX2_atom 144 = .ok (.aload_n 1, 1) := dk_43 (dk_at dksX2_atom_6 8 rfl rfl)
theorem dX2_atom_145 : decode cX2_atom 145 = .ok (.ldc_w 298, 3) := dk_19 1 42 (dk_at dksX2_atom_6 9 rfl rfl)
theorem dX2_atom_148 : decode cX2_atom 148 = .ok (.invokevirtual 74, 3) := dk_182 0 74 (dk_at dksX2_atom_6 12 rfl rfl)
theorem dX2_atom_151 : decode cX2_atom 151 = .ok (.ifCond .eq 7, 3) := dk_153 0 7 (dk_at dksX2_atom_6 15 rfl rfl)
theorem dX2_atom_154 : decode cX2_atom 154 = .ok (.iconst 1, 1) := dk_4 (dk_at dksX2_atom_6 18 rfl rfl)
theorem dX2_atom_155 : decode cX2_atom 155 = .ok (.goto 4, 3) := dk_167 0 4 (dk_at dksX2_atom_6 19 rfl rfl)
theorem dX2_atom_158 : decode cX2_atom 158 = .ok (.iconst 2, 1) := dk_5 (dk_at dksX2_atom_6 22 rfl rfl)
theorem dX2_atom_159 : decode cX2_atom 159 = .ok (.invokevirtual 273, 3) := dk_182 1 17 (dk_at dksX2_atom_7 0 rfl rfl)
theorem dX2_atom_162 : decode cX2_atom 162 = .ok (.areturn, 1) := dk_176 (dk_at dksX2_atom_7 3 rfl rfl)
abbrev cX2_within : ByteArray := prog_19_method_23_code
def yX2_within : MethodName := ⟨RX2, "within", "(I)LGardenChess$Value;"⟩
def dkwX2_within_4 : List UInt8 := [176]
abbrev dktX2_within_4 : List UInt8 := dkwX2_within_4 ++ []
def dkwX2_within_3 : List UInt8 := [182, 0, 226, 183, 1, 14, 78, 42, 16, 41, 182, 0, 143, 42, 89, 180, 0, 119, 4, 100, 181, 0, 119, 45]
abbrev dktX2_within_3 : List UInt8 := dkwX2_within_3 ++ dktX2_within_4
def dkwX2_within_2 : List UInt8 := [42, 16, 44, 182, 0, 143, 187, 1, 12, 89, 27, 5, 160, 0, 7, 4, 167, 0, 4, 3, 44, 42]
abbrev dktX2_within_2 : List UInt8 := dkwX2_within_2 ++ dktX2_within_3
def dkwX2_within_1 : List UInt8 := [182, 1, 9, 42, 89, 180, 0, 36, 4, 96, 181, 0, 36, 42, 182, 0, 226, 77, 44, 78, 27, 158, 0, 32]
abbrev dktX2_within_1 : List UInt8 := dkwX2_within_1 ++ dktX2_within_2
def dkwX2_within_0 : List UInt8 := [42, 182, 0, 43, 16, 40, 159, 0, 13, 42, 4, 42, 180, 0, 36, 182, 0, 47, 191, 42, 42, 180, 0, 36]
abbrev dktX2_within_0 : List UInt8 := dkwX2_within_0 ++ dktX2_within_1
theorem dksX2_within_0 : cX2_within.data.toList.drop 0 = dktX2_within_0 := by decide +kernel
theorem dksX2_within_1 : cX2_within.data.toList.drop 24 = dktX2_within_1 := dk_seg dksX2_within_0 24 rfl rfl
theorem dksX2_within_2 : cX2_within.data.toList.drop 48 = dktX2_within_2 := dk_seg dksX2_within_1 24 rfl rfl
theorem dksX2_within_3 : cX2_within.data.toList.drop 70 = dktX2_within_3 := dk_seg dksX2_within_2 22 rfl rfl
theorem dksX2_within_4 : cX2_within.data.toList.drop 94 = dktX2_within_4 := dk_seg dksX2_within_3 24 rfl rfl
theorem dX2_within_0 : decode cX2_within 0 = .ok (.aload_n 0, 1) := dk_42 (dk_at dksX2_within_0 0 rfl rfl)
theorem dX2_within_1 : decode cX2_within 1 = .ok (.invokevirtual 43, 3) := dk_182 0 43 (dk_at dksX2_within_0 1 rfl rfl)
theorem dX2_within_4 : decode cX2_within 4 = .ok (.bipush 40, 2) := dk_16 40 (dk_at dksX2_within_0 4 rfl rfl)
theorem dX2_within_6 : decode cX2_within 6 = .ok (.if_icmp .eq 13, 3) := dk_159 0 13 (dk_at dksX2_within_0 6 rfl rfl)
theorem dX2_within_9 : decode cX2_within 9 = .ok (.aload_n 0, 1) := dk_42 (dk_at dksX2_within_0 9 rfl rfl)
theorem dX2_within_10 : decode cX2_within 10 = .ok (.iconst 1, 1) := dk_4 (dk_at dksX2_within_0 10 rfl rfl)
theorem dX2_within_11 : decode cX2_within 11 = .ok (.aload_n 0, 1) := dk_42 (dk_at dksX2_within_0 11 rfl rfl)
theorem dX2_within_12 : decode cX2_within 12 = .ok (.getfield 36, 3) := dk_180 0 36 (dk_at dksX2_within_0 12 rfl rfl)
theorem dX2_within_15 : decode cX2_within 15 = .ok (.invokevirtual 47, 3) := dk_182 0 47 (dk_at dksX2_within_0 15 rfl rfl)
theorem dX2_within_18 : decode cX2_within 18 = .ok (.athrow, 1) := dk_191 (dk_at dksX2_within_0 18 rfl rfl)
theorem dX2_within_19 : decode cX2_within 19 = .ok (.aload_n 0, 1) := dk_42 (dk_at dksX2_within_0 19 rfl rfl)
theorem dX2_within_20 : decode cX2_within 20 = .ok (.aload_n 0, 1) := dk_42 (dk_at dksX2_within_0 20 rfl rfl)
theorem dX2_within_21 : decode cX2_within 21 = .ok (.getfield 36, 3) := dk_180 0 36 (dk_at dksX2_within_0 21 rfl rfl)
theorem dX2_within_24 : decode cX2_within 24 = .ok (.invokevirtual 265, 3) := dk_182 1 9 (dk_at dksX2_within_1 0 rfl rfl)
theorem dX2_within_27 : decode cX2_within 27 = .ok (.aload_n 0, 1) := dk_42 (dk_at dksX2_within_1 3 rfl rfl)
theorem dX2_within_28 : decode cX2_within 28 = .ok (.dup, 1) := dk_89 (dk_at dksX2_within_1 4 rfl rfl)
theorem dX2_within_29 : decode cX2_within 29 = .ok (.getfield 36, 3) := dk_180 0 36 (dk_at dksX2_within_1 5 rfl rfl)
theorem dX2_within_32 : decode cX2_within 32 = .ok (.iconst 1, 1) := dk_4 (dk_at dksX2_within_1 8 rfl rfl)
theorem dX2_within_33 : decode cX2_within 33 = .ok (.iadd, 1) := dk_96 (dk_at dksX2_within_1 9 rfl rfl)
theorem dX2_within_34 : decode cX2_within 34 = .ok (.putfield 36, 3) := dk_181 0 36 (dk_at dksX2_within_1 10 rfl rfl)
theorem dX2_within_37 : decode cX2_within 37 = .ok (.aload_n 0, 1) := dk_42 (dk_at dksX2_within_1 13 rfl rfl)
theorem dX2_within_38 : decode cX2_within 38 = .ok (.invokevirtual 226, 3) := dk_182 0 226 (dk_at dksX2_within_1 14 rfl rfl)
theorem dX2_within_41 : decode cX2_within 41 = .ok (.astore_n 2, 1) := dk_77 (dk_at dksX2_within_1 17 rfl rfl)
theorem dX2_within_42 : decode cX2_within 42 = .ok (.aload_n 2, 1) := dk_44 (dk_at dksX2_within_1 18 rfl rfl)
theorem dX2_within_43 : decode cX2_within 43 = .ok (.astore_n 3, 1) := dk_78 (dk_at dksX2_within_1 19 rfl rfl)
theorem dX2_within_44 : decode cX2_within 44 = .ok (.iload_n 1, 1) := dk_27 (dk_at dksX2_within_1 20 rfl rfl)
theorem dX2_within_45 : decode cX2_within 45 = .ok (.ifCond .le 32, 3) := dk_158 0 32 (dk_at dksX2_within_1 21 rfl rfl)
theorem dX2_within_48 : decode cX2_within 48 = .ok (.aload_n 0, 1) := dk_42 (dk_at dksX2_within_2 0 rfl rfl)
theorem dX2_within_49 : decode cX2_within 49 = .ok (.bipush 44, 2) := dk_16 44 (dk_at dksX2_within_2 1 rfl rfl)
theorem dX2_within_51 : decode cX2_within 51 = .ok (.invokevirtual 143, 3) := dk_182 0 143 (dk_at dksX2_within_2 3 rfl rfl)
theorem dX2_within_54 : decode cX2_within 54 = .ok (.new 268, 3) := dk_187 1 12 (dk_at dksX2_within_2 6 rfl rfl)
theorem dX2_within_57 : decode cX2_within 57 = .ok (.dup, 1) := dk_89 (dk_at dksX2_within_2 9 rfl rfl)
theorem dX2_within_58 : decode cX2_within 58 = .ok (.iload_n 1, 1) := dk_27 (dk_at dksX2_within_2 10 rfl rfl)
theorem dX2_within_59 : decode cX2_within 59 = .ok (.iconst 2, 1) := dk_5 (dk_at dksX2_within_2 11 rfl rfl)
theorem dX2_within_60 : decode cX2_within 60 = .ok (.if_icmp .ne 7, 3) := dk_160 0 7 (dk_at dksX2_within_2 12 rfl rfl)
theorem dX2_within_63 : decode cX2_within 63 = .ok (.iconst 1, 1) := dk_4 (dk_at dksX2_within_2 15 rfl rfl)
theorem dX2_within_64 : decode cX2_within 64 = .ok (.goto 4, 3) := dk_167 0 4 (dk_at dksX2_within_2 16 rfl rfl)
theorem dX2_within_67 : decode cX2_within 67 = .ok (.iconst 0, 1) := dk_3 (dk_at dksX2_within_2 19 rfl rfl)
theorem dX2_within_68 : decode cX2_within 68 = .ok (.aload_n 2, 1) := dk_44 (dk_at dksX2_within_2 20 rfl rfl)
theorem dX2_within_69 : decode cX2_within 69 = .ok (.aload_n 0, 1) := dk_42 (dk_at dksX2_within_2 21 rfl rfl)
theorem dX2_within_70 : decode cX2_within 70 = .ok (.invokevirtual 226, 3) := dk_182 0 226 (dk_at dksX2_within_3 0 rfl rfl)
theorem dX2_within_73 : decode cX2_within 73 = .ok (.invokespecial 270, 3) := dk_183 1 14 (dk_at dksX2_within_3 3 rfl rfl)
theorem dX2_within_76 : decode cX2_within 76 = .ok (.astore_n 3, 1) := dk_78 (dk_at dksX2_within_3 6 rfl rfl)
theorem dX2_within_77 : decode cX2_within 77 = .ok (.aload_n 0, 1) := dk_42 (dk_at dksX2_within_3 7 rfl rfl)
theorem dX2_within_78 : decode cX2_within 78 = .ok (.bipush 41, 2) := dk_16 41 (dk_at dksX2_within_3 8 rfl rfl)
theorem dX2_within_80 : decode cX2_within 80 = .ok (.invokevirtual 143, 3) := dk_182 0 143 (dk_at dksX2_within_3 10 rfl rfl)
theorem dX2_within_83 : decode cX2_within 83 = .ok (.aload_n 0, 1) := dk_42 (dk_at dksX2_within_3 13 rfl rfl)
theorem dX2_within_84 : decode cX2_within 84 = .ok (.dup, 1) := dk_89 (dk_at dksX2_within_3 14 rfl rfl)
theorem dX2_within_85 : decode cX2_within 85 = .ok (.getfield 119, 3) := dk_180 0 119 (dk_at dksX2_within_3 15 rfl rfl)
theorem dX2_within_88 : decode cX2_within 88 = .ok (.iconst 1, 1) := dk_4 (dk_at dksX2_within_3 18 rfl rfl)
theorem dX2_within_89 : decode cX2_within 89 = .ok (.isub, 1) := dk_100 (dk_at dksX2_within_3 19 rfl rfl)
theorem dX2_within_90 : decode cX2_within 90 = .ok (.putfield 119, 3) := dk_181 0 119 (dk_at dksX2_within_3 20 rfl rfl)
theorem dX2_within_93 : decode cX2_within 93 = .ok (.aload_n 3, 1) := dk_45 (dk_at dksX2_within_3 23 rfl rfl)
theorem dX2_within_94 : decode cX2_within 94 = .ok (.areturn, 1) := dk_176 (dk_at dksX2_within_4 0 rfl rfl)
abbrev cX2_opens : ByteArray := prog_19_method_22_code
def yX2_opens : MethodName := ⟨RX2, "opens", "(I)V"⟩
def dkwX2_opens_1 : List UInt8 := [181, 0, 119, 177]
abbrev dktX2_opens_1 : List UInt8 := dkwX2_opens_1 ++ []
def dkwX2_opens_0 : List UInt8 := [42, 180, 0, 119, 16, 6, 160, 0, 10, 42, 7, 27, 182, 0, 47, 191, 42, 89, 180, 0, 119, 4, 96]
abbrev dktX2_opens_0 : List UInt8 := dkwX2_opens_0 ++ dktX2_opens_1
theorem dksX2_opens_0 : cX2_opens.data.toList.drop 0 = dktX2_opens_0 := by decide +kernel
theorem dksX2_opens_1 : cX2_opens.data.toList.drop 23 = dktX2_opens_1 := dk_seg dksX2_opens_0 23 rfl rfl
theorem dX2_opens_0 : decode cX2_opens 0 = .ok (.aload_n 0, 1) := dk_42 (dk_at dksX2_opens_0 0 rfl rfl)
theorem dX2_opens_1 : decode cX2_opens 1 = .ok (.getfield 119, 3) := dk_180 0 119 (dk_at dksX2_opens_0 1 rfl rfl)
theorem dX2_opens_4 : decode cX2_opens 4 = .ok (.bipush 6, 2) := dk_16 6 (dk_at dksX2_opens_0 4 rfl rfl)
theorem dX2_opens_6 : decode cX2_opens 6 = .ok (.if_icmp .ne 10, 3) := dk_160 0 10 (dk_at dksX2_opens_0 6 rfl rfl)
theorem dX2_opens_9 : decode cX2_opens 9 = .ok (.aload_n 0, 1) := dk_42 (dk_at dksX2_opens_0 9 rfl rfl)
theorem dX2_opens_10 : decode cX2_opens 10 = .ok (.iconst 4, 1) := dk_7 (dk_at dksX2_opens_0 10 rfl rfl)
theorem dX2_opens_11 : decode cX2_opens 11 = .ok (.iload_n 1, 1) := dk_27 (dk_at dksX2_opens_0 11 rfl rfl)
theorem dX2_opens_12 : decode cX2_opens 12 = .ok (.invokevirtual 47, 3) := dk_182 0 47 (dk_at dksX2_opens_0 12 rfl rfl)
theorem dX2_opens_15 : decode cX2_opens 15 = .ok (.athrow, 1) := dk_191 (dk_at dksX2_opens_0 15 rfl rfl)
theorem dX2_opens_16 : decode cX2_opens 16 = .ok (.aload_n 0, 1) := dk_42 (dk_at dksX2_opens_0 16 rfl rfl)
theorem dX2_opens_17 : decode cX2_opens 17 = .ok (.dup, 1) := dk_89 (dk_at dksX2_opens_0 17 rfl rfl)
theorem dX2_opens_18 : decode cX2_opens 18 = .ok (.getfield 119, 3) := dk_180 0 119 (dk_at dksX2_opens_0 18 rfl rfl)
theorem dX2_opens_21 : decode cX2_opens 21 = .ok (.iconst 1, 1) := dk_4 (dk_at dksX2_opens_0 21 rfl rfl)
theorem dX2_opens_22 : decode cX2_opens 22 = .ok (.iadd, 1) := dk_96 (dk_at dksX2_opens_0 22 rfl rfl)
theorem dX2_opens_23 : decode cX2_opens 23 = .ok (.putfield 119, 3) := dk_181 0 119 (dk_at dksX2_opens_1 0 rfl rfl)
theorem dX2_opens_26 : decode cX2_opens 26 = .ok (.return_, 1) := dk_177 (dk_at dksX2_opens_1 3 rfl rfl)
abbrev cX2_looked : ByteArray := prog_19_method_28_code
def yX2_looked : MethodName := ⟨RX2, "looked", "(I)LGardenChess$Value;"⟩
def dkwX2_looked_1 : List UInt8 := [77, 42, 89, 180, 0, 119, 4, 100, 181, 0, 119, 44, 176]
abbrev dktX2_looked_1 : List UInt8 := dkwX2_looked_1 ++ []
def dkwX2_looked_0 : List UInt8 := [42, 42, 180, 0, 61, 182, 1, 9, 187, 1, 85, 89, 42, 180, 0, 3, 27, 42, 182, 1, 6, 183, 1, 87]
abbrev dktX2_looked_0 : List UInt8 := dkwX2_looked_0 ++ dktX2_looked_1
theorem dksX2_looked_0 : cX2_looked.data.toList.drop 0 = dktX2_looked_0 := by decide +kernel
theorem dksX2_looked_1 : cX2_looked.data.toList.drop 24 = dktX2_looked_1 := dk_seg dksX2_looked_0 24 rfl rfl
theorem dX2_looked_0 : decode cX2_looked 0 = .ok (.aload_n 0, 1) := dk_42 (dk_at dksX2_looked_0 0 rfl rfl)
theorem dX2_looked_1 : decode cX2_looked 1 = .ok (.aload_n 0, 1) := dk_42 (dk_at dksX2_looked_0 1 rfl rfl)
theorem dX2_looked_2 : decode cX2_looked 2 = .ok (.getfield 61, 3) := dk_180 0 61 (dk_at dksX2_looked_0 2 rfl rfl)
theorem dX2_looked_5 : decode cX2_looked 5 = .ok (.invokevirtual 265, 3) := dk_182 1 9 (dk_at dksX2_looked_0 5 rfl rfl)
theorem dX2_looked_8 : decode cX2_looked 8 = .ok (.new 341, 3) := dk_187 1 85 (dk_at dksX2_looked_0 8 rfl rfl)
theorem dX2_looked_11 : decode cX2_looked 11 = .ok (.dup, 1) := dk_89 (dk_at dksX2_looked_0 11 rfl rfl)
theorem dX2_looked_12 : decode cX2_looked 12 = .ok (.aload_n 0, 1) := dk_42 (dk_at dksX2_looked_0 12 rfl rfl)
theorem dX2_looked_13 : decode cX2_looked 13 = .ok (.getfield 3, 3) := dk_180 0 3 (dk_at dksX2_looked_0 13 rfl rfl)
theorem dX2_looked_16 : decode cX2_looked 16 = .ok (.iload_n 1, 1) := dk_27 (dk_at dksX2_looked_0 16 rfl rfl)
theorem dX2_looked_17 : decode cX2_looked 17 = .ok (.aload_n 0, 1) := dk_42 (dk_at dksX2_looked_0 17 rfl rfl)
theorem dX2_looked_18 : decode cX2_looked 18 = .ok (.invokevirtual 262, 3) := dk_182 1 6 (dk_at dksX2_looked_0 18 rfl rfl)
theorem dX2_looked_21 : decode cX2_looked 21 = .ok (.invokespecial 343, 3) := dk_183 1 87 (dk_at dksX2_looked_0 21 rfl rfl)
theorem dX2_looked_24 : decode cX2_looked 24 = .ok (.astore_n 2, 1) := dk_77 (dk_at dksX2_looked_1 0 rfl rfl)
theorem dX2_looked_25 : decode cX2_looked 25 = .ok (.aload_n 0, 1) := dk_42 (dk_at dksX2_looked_1 1 rfl rfl)
theorem dX2_looked_26 : decode cX2_looked 26 = .ok (.dup, 1) := dk_89 (dk_at dksX2_looked_1 2 rfl rfl)
theorem dX2_looked_27 : decode cX2_looked 27 = .ok (.getfield 119, 3) := dk_180 0 119 (dk_at dksX2_looked_1 3 rfl rfl)
theorem dX2_looked_30 : decode cX2_looked 30 = .ok (.iconst 1, 1) := dk_4 (dk_at dksX2_looked_1 6 rfl rfl)
theorem dX2_looked_31 : decode cX2_looked 31 = .ok (.isub, 1) := dk_100 (dk_at dksX2_looked_1 7 rfl rfl)
theorem dX2_looked_32 : decode cX2_looked 32 = .ok (.putfield 119, 3) := dk_181 0 119 (dk_at dksX2_looked_1 8 rfl rfl)
theorem dX2_looked_35 : decode cX2_looked 35 = .ok (.aload_n 2, 1) := dk_44 (dk_at dksX2_looked_1 11 rfl rfl)
theorem dX2_looked_36 : decode cX2_looked 36 = .ok (.areturn, 1) := dk_176 (dk_at dksX2_looked_1 12 rfl rfl)
abbrev cX2_takes : ByteArray := prog_19_method_19_code
def yX2_takes : MethodName := ⟨RX2, "takes", "(I)Z"⟩
def dkwX2_takes_1 : List UInt8 := [167, 0, 4, 3, 96, 181, 0, 36, 28, 172]
abbrev dktX2_takes_1 : List UInt8 := dkwX2_takes_1 ++ []
def dkwX2_takes_0 : List UInt8 := [42, 182, 0, 43, 27, 160, 0, 7, 4, 167, 0, 4, 3, 61, 42, 89, 180, 0, 36, 28, 153, 0, 7, 4]
abbrev dktX2_takes_0 : List UInt8 := dkwX2_takes_0 ++ dktX2_takes_1
theorem dksX2_takes_0 : cX2_takes.data.toList.drop 0 = dktX2_takes_0 := by decide +kernel
theorem dksX2_takes_1 : cX2_takes.data.toList.drop 24 = dktX2_takes_1 := dk_seg dksX2_takes_0 24 rfl rfl
theorem dX2_takes_0 : decode cX2_takes 0 = .ok (.aload_n 0, 1) := dk_42 (dk_at dksX2_takes_0 0 rfl rfl)
theorem dX2_takes_1 : decode cX2_takes 1 = .ok (.invokevirtual 43, 3) := dk_182 0 43 (dk_at dksX2_takes_0 1 rfl rfl)
theorem dX2_takes_4 : decode cX2_takes 4 = .ok (.iload_n 1, 1) := dk_27 (dk_at dksX2_takes_0 4 rfl rfl)
theorem dX2_takes_5 : decode cX2_takes 5 = .ok (.if_icmp .ne 7, 3) := dk_160 0 7 (dk_at dksX2_takes_0 5 rfl rfl)
theorem dX2_takes_8 : decode cX2_takes 8 = .ok (.iconst 1, 1) := dk_4 (dk_at dksX2_takes_0 8 rfl rfl)
theorem dX2_takes_9 : decode cX2_takes 9 = .ok (.goto 4, 3) := dk_167 0 4 (dk_at dksX2_takes_0 9 rfl rfl)
theorem dX2_takes_12 : decode cX2_takes 12 = .ok (.iconst 0, 1) := dk_3 (dk_at dksX2_takes_0 12 rfl rfl)
theorem dX2_takes_13 : decode cX2_takes 13 = .ok (.istore_n 2, 1) := dk_61 (dk_at dksX2_takes_0 13 rfl rfl)
theorem dX2_takes_14 : decode cX2_takes 14 = .ok (.aload_n 0, 1) := dk_42 (dk_at dksX2_takes_0 14 rfl rfl)
theorem dX2_takes_15 : decode cX2_takes 15 = .ok (.dup, 1) := dk_89 (dk_at dksX2_takes_0 15 rfl rfl)
theorem dX2_takes_16 : decode cX2_takes 16 = .ok (.getfield 36, 3) := dk_180 0 36 (dk_at dksX2_takes_0 16 rfl rfl)
theorem dX2_takes_19 : decode cX2_takes 19 = .ok (.iload_n 2, 1) := dk_28 (dk_at dksX2_takes_0 19 rfl rfl)
theorem dX2_takes_20 : decode cX2_takes 20 = .ok (.ifCond .eq 7, 3) := dk_153 0 7 (dk_at dksX2_takes_0 20 rfl rfl)
theorem dX2_takes_23 : decode cX2_takes 23 = .ok (.iconst 1, 1) := dk_4 (dk_at dksX2_takes_0 23 rfl rfl)
theorem dX2_takes_24 : decode cX2_takes 24 = .ok (.goto 4, 3) := dk_167 0 4 (dk_at dksX2_takes_1 0 rfl rfl)
theorem dX2_takes_27 : decode cX2_takes 27 = .ok (.iconst 0, 1) := dk_3 (dk_at dksX2_takes_1 3 rfl rfl)
theorem dX2_takes_28 : decode cX2_takes 28 = .ok (.iadd, 1) := dk_96 (dk_at dksX2_takes_1 4 rfl rfl)
theorem dX2_takes_29 : decode cX2_takes 29 = .ok (.putfield 36, 3) := dk_181 0 36 (dk_at dksX2_takes_1 5 rfl rfl)
theorem dX2_takes_32 : decode cX2_takes 32 = .ok (.iload_n 2, 1) := dk_28 (dk_at dksX2_takes_1 8 rfl rfl)
theorem dX2_takes_33 : decode cX2_takes 33 = .ok (.ireturn, 1) := dk_172 (dk_at dksX2_takes_1 9 rfl rfl)
abbrev cX2_question : ByteArray := prog_19_method_29_code
def yX2_question : MethodName := ⟨RX2, "question", "(I)LGardenChess$Question;"⟩
def dkwX2_question_4 : List UInt8 := [42, 180, 0, 36, 182, 0, 47, 191, 45, 176]
abbrev dktX2_question_4 : List UInt8 := dkwX2_question_4 ++ []
def dkwX2_question_3 : List UInt8 := [187, 1, 93, 89, 28, 1, 42, 182, 0, 226, 183, 1, 95, 78, 42, 182, 0, 43, 2, 159, 0, 13, 42, 4]
abbrev dktX2_question_3 : List UInt8 := dkwX2_question_3 ++ dktX2_question_4
def dkwX2_question_2 : List UInt8 := [191, 28, 6, 162, 0, 19, 187, 1, 93, 89, 28, 42, 182, 1, 65, 1, 183, 1, 95, 167, 0, 16]
abbrev dktX2_question_2 : List UInt8 := dkwX2_question_2 ++ dktX2_question_3
def dkwX2_question_1 : List UInt8 := [182, 0, 70, 178, 1, 90, 184, 0, 82, 61, 28, 2, 160, 0, 13, 42, 4, 42, 180, 0, 61, 182, 0, 47]
abbrev dktX2_question_1 : List UInt8 := dkwX2_question_1 ++ dktX2_question_2
def dkwX2_question_0 : List UInt8 := [42, 27, 181, 0, 29, 42, 3, 181, 0, 36, 42, 3, 181, 0, 119, 42, 17, 7, 248, 181, 0, 223, 42]
abbrev dktX2_question_0 : List UInt8 := dkwX2_question_0 ++ dktX2_question_1
theorem dksX2_question_0 : cX2_question.data.toList.drop 0 = dktX2_question_0 := by decide +kernel
theorem dksX2_question_1 : cX2_question.data.toList.drop 23 = dktX2_question_1 := dk_seg dksX2_question_0 23 rfl rfl
theorem dksX2_question_2 : cX2_question.data.toList.drop 47 = dktX2_question_2 := dk_seg dksX2_question_1 24 rfl rfl
theorem dksX2_question_3 : cX2_question.data.toList.drop 69 = dktX2_question_3 := dk_seg dksX2_question_2 22 rfl rfl
theorem dksX2_question_4 : cX2_question.data.toList.drop 93 = dktX2_question_4 := dk_seg dksX2_question_3 24 rfl rfl
theorem dX2_question_0 : decode cX2_question 0 = .ok (.aload_n 0, 1) := dk_42 (dk_at dksX2_question_0 0 rfl rfl)
theorem dX2_question_1 : decode cX2_question 1 = .ok (.iload_n 1, 1) := dk_27 (dk_at dksX2_question_0 1 rfl rfl)
theorem dX2_question_2 : decode cX2_question 2 = .ok (.putfield 29, 3) := dk_181 0 29 (dk_at dksX2_question_0 2 rfl rfl)
theorem dX2_question_5 : decode cX2_question 5 = .ok (.aload_n 0, 1) := dk_42 (dk_at dksX2_question_0 5 rfl rfl)
theorem dX2_question_6 : decode cX2_question 6 = .ok (.iconst 0, 1) := dk_3 (dk_at dksX2_question_0 6 rfl rfl)
theorem dX2_question_7 : decode cX2_question 7 = .ok (.putfield 36, 3) := dk_181 0 36 (dk_at dksX2_question_0 7 rfl rfl)
theorem dX2_question_10 : decode cX2_question 10 = .ok (.aload_n 0, 1) := dk_42 (dk_at dksX2_question_0 10 rfl rfl)
theorem dX2_question_11 : decode cX2_question 11 = .ok (.iconst 0, 1) := dk_3 (dk_at dksX2_question_0 11 rfl rfl)
theorem dX2_question_12 : decode cX2_question 12 = .ok (.putfield 119, 3) := dk_181 0 119 (dk_at dksX2_question_0 12 rfl rfl)
theorem dX2_question_15 : decode cX2_question 15 = .ok (.aload_n 0, 1) := dk_42 (dk_at dksX2_question_0 15 rfl rfl)
theorem dX2_question_16 : decode cX2_question 16 = .ok (.sipush 2040, 3) := dk_17 7 248 (dk_at dksX2_question_0 16 rfl rfl)
theorem dX2_question_19 : decode cX2_question 19 = .ok (.putfield 223, 3) := dk_181 0 223 (dk_at dksX2_question_0 19 rfl rfl)
theorem dX2_question_22 : decode cX2_question 22 = .ok (.aload_n 0, 1) := dk_42 (dk_at dksX2_question_0 22 rfl rfl)
theorem dX2_question_23 : decode cX2_question 23 = .ok (.invokevirtual 70, 3) := dk_182 0 70 (dk_at dksX2_question_1 0 rfl rfl)
theorem dX2_question_26 : decode cX2_question 26 = .ok (.getstatic 346, 3) := dk_178 1 90 (dk_at dksX2_question_1 3 rfl rfl)
theorem dX2_question_29 : decode cX2_question 29 = .ok (.invokestatic 82, 3) := dk_184 0 82 (dk_at dksX2_question_1 6 rfl rfl)
theorem dX2_question_32 : decode cX2_question 32 = .ok (.istore_n 2, 1) := dk_61 (dk_at dksX2_question_1 9 rfl rfl)
theorem dX2_question_33 : decode cX2_question 33 = .ok (.iload_n 2, 1) := dk_28 (dk_at dksX2_question_1 10 rfl rfl)
theorem dX2_question_34 : decode cX2_question 34 = .ok (.iconst (-1), 1) := dk_2 (dk_at dksX2_question_1 11 rfl rfl)
theorem dX2_question_35 : decode cX2_question 35 = .ok (.if_icmp .ne 13, 3) := dk_160 0 13 (dk_at dksX2_question_1 12 rfl rfl)
theorem dX2_question_38 : decode cX2_question 38 = .ok (.aload_n 0, 1) := dk_42 (dk_at dksX2_question_1 15 rfl rfl)
theorem dX2_question_39 : decode cX2_question 39 = .ok (.iconst 1, 1) := dk_4 (dk_at dksX2_question_1 16 rfl rfl)
theorem dX2_question_40 : decode cX2_question 40 = .ok (.aload_n 0, 1) := dk_42 (dk_at dksX2_question_1 17 rfl rfl)
theorem dX2_question_41 : decode cX2_question 41 = .ok (.getfield 61, 3) := dk_180 0 61 (dk_at dksX2_question_1 18 rfl rfl)
theorem dX2_question_44 : decode cX2_question 44 = .ok (.invokevirtual 47, 3) := dk_182 0 47 (dk_at dksX2_question_1 21 rfl rfl)
theorem dX2_question_47 : decode cX2_question 47 = .ok (.athrow, 1) := dk_191 (dk_at dksX2_question_2 0 rfl rfl)
theorem dX2_question_48 : decode cX2_question 48 = .ok (.iload_n 2, 1) := dk_28 (dk_at dksX2_question_2 1 rfl rfl)
theorem dX2_question_49 : decode cX2_question 49 = .ok (.iconst 3, 1) := dk_6 (dk_at dksX2_question_2 2 rfl rfl)
theorem dX2_question_50 : decode cX2_question 50 = .ok (.if_icmp .ge 19, 3) := dk_162 0 19 (dk_at dksX2_question_2 3 rfl rfl)
theorem dX2_question_53 : decode cX2_question 53 = .ok (.new 349, 3) := dk_187 1 93 (dk_at dksX2_question_2 6 rfl rfl)
theorem dX2_question_56 : decode cX2_question 56 = .ok (.dup, 1) := dk_89 (dk_at dksX2_question_2 9 rfl rfl)
theorem dX2_question_57 : decode cX2_question 57 = .ok (.iload_n 2, 1) := dk_28 (dk_at dksX2_question_2 10 rfl rfl)
theorem dX2_question_58 : decode cX2_question 58 = .ok (.aload_n 0, 1) := dk_42 (dk_at dksX2_question_2 11 rfl rfl)
theorem dX2_question_59 : decode cX2_question 59 = .ok (.invokevirtual 321, 3) := dk_182 1 65 (dk_at dksX2_question_2 12 rfl rfl)
theorem dX2_question_62 : decode cX2_question 62 = .ok (.aconst_null, 1) := dk_1 (dk_at dksX2_question_2 15 rfl rfl)
theorem dX2_question_63 : decode cX2_question 63 = .ok (.invokespecial 351, 3) := dk_183 1 95 (dk_at dksX2_question_2 16 rfl rfl)
theorem dX2_question_66 : decode cX2_question 66 = .ok (.goto 16, 3) := dk_167 0 16 (dk_at dksX2_question_2 19 rfl rfl)
theorem dX2_question_69 : decode cX2_question 69 = .ok (.new 349, 3) := dk_187 1 93 (dk_at dksX2_question_3 0 rfl rfl)
theorem dX2_question_72 : decode cX2_question 72 = .ok (.dup, 1) := dk_89 (dk_at dksX2_question_3 3 rfl rfl)
theorem dX2_question_73 : decode cX2_question 73 = .ok (.iload_n 2, 1) := dk_28 (dk_at dksX2_question_3 4 rfl rfl)
theorem dX2_question_74 : decode cX2_question 74 = .ok (.aconst_null, 1) := dk_1 (dk_at dksX2_question_3 5 rfl rfl)
theorem dX2_question_75 : decode cX2_question 75 = .ok (.aload_n 0, 1) := dk_42 (dk_at dksX2_question_3 6 rfl rfl)
theorem dX2_question_76 : decode cX2_question 76 = .ok (.invokevirtual 226, 3) := dk_182 0 226 (dk_at dksX2_question_3 7 rfl rfl)
theorem dX2_question_79 : decode cX2_question 79 = .ok (.invokespecial 351, 3) := dk_183 1 95 (dk_at dksX2_question_3 10 rfl rfl)
theorem dX2_question_82 : decode cX2_question 82 = .ok (.astore_n 3, 1) := dk_78 (dk_at dksX2_question_3 13 rfl rfl)
theorem dX2_question_83 : decode cX2_question 83 = .ok (.aload_n 0, 1) := dk_42 (dk_at dksX2_question_3 14 rfl rfl)
theorem dX2_question_84 : decode cX2_question 84 = .ok (.invokevirtual 43, 3) := dk_182 0 43 (dk_at dksX2_question_3 15 rfl rfl)
theorem dX2_question_87 : decode cX2_question 87 = .ok (.iconst (-1), 1) := dk_2 (dk_at dksX2_question_3 18 rfl rfl)
theorem dX2_question_88 : decode cX2_question 88 = .ok (.if_icmp .eq 13, 3) := dk_159 0 13 (dk_at dksX2_question_3 19 rfl rfl)
theorem dX2_question_91 : decode cX2_question 91 = .ok (.aload_n 0, 1) := dk_42 (dk_at dksX2_question_3 22 rfl rfl)
theorem dX2_question_92 : decode cX2_question 92 = .ok (.iconst 1, 1) := dk_4 (dk_at dksX2_question_3 23 rfl rfl)
theorem dX2_question_93 : decode cX2_question 93 = .ok (.aload_n 0, 1) := dk_42 (dk_at dksX2_question_4 0 rfl rfl)
theorem dX2_question_94 : decode cX2_question 94 = .ok (.getfield 36, 3) := dk_180 0 36 (dk_at dksX2_question_4 1 rfl rfl)
theorem dX2_question_97 : decode cX2_question 97 = .ok (.invokevirtual 47, 3) := dk_182 0 47 (dk_at dksX2_question_4 4 rfl rfl)
theorem dX2_question_100 : decode cX2_question 100 = .ok (.athrow, 1) := dk_191 (dk_at dksX2_question_4 7 rfl rfl)
theorem dX2_question_101 : decode cX2_question 101 = .ok (.aload_n 3, 1) := dk_45 (dk_at dksX2_question_4 8 rfl rfl)
theorem dX2_question_102 : decode cX2_question 102 = .ok (.areturn, 1) := dk_176 (dk_at dksX2_question_4 9 rfl rfl)
abbrev cX2_test : ByteArray := prog_19_method_25_code
def yX2_test : MethodName := ⟨RX2, "test", "()LGardenChess$Test;"⟩
def dkwX2_test_2 : List UInt8 := [167, 255, 232, 43, 176]
abbrev dktX2_test_2 : List UInt8 := dkwX2_test_2 ++ []
def dkwX2_test_1 : List UInt8 := [19, 1, 58, 182, 0, 196, 153, 0, 20, 43, 180, 1, 51, 42, 182, 1, 54, 185, 0, 203, 2, 0, 87]
abbrev dktX2_test_1 : List UInt8 := dkwX2_test_1 ++ dktX2_test_2
def dkwX2_test_0 : List UInt8 := [187, 1, 46, 89, 3, 183, 1, 48, 76, 43, 180, 1, 51, 42, 182, 1, 54, 185, 0, 203, 2, 0, 87, 42]
abbrev dktX2_test_0 : List UInt8 := dkwX2_test_0 ++ dktX2_test_1
theorem dksX2_test_0 : cX2_test.data.toList.drop 0 = dktX2_test_0 := by decide +kernel
theorem dksX2_test_1 : cX2_test.data.toList.drop 24 = dktX2_test_1 := dk_seg dksX2_test_0 24 rfl rfl
theorem dksX2_test_2 : cX2_test.data.toList.drop 47 = dktX2_test_2 := dk_seg dksX2_test_1 23 rfl rfl
theorem dX2_test_0 : decode cX2_test 0 = .ok (.new 302, 3) := dk_187 1 46 (dk_at dksX2_test_0 0 rfl rfl)
theorem dX2_test_3 : decode cX2_test 3 = .ok (.dup, 1) := dk_89 (dk_at dksX2_test_0 3 rfl rfl)
theorem dX2_test_4 : decode cX2_test 4 = .ok (.iconst 0, 1) := dk_3 (dk_at dksX2_test_0 4 rfl rfl)
theorem dX2_test_5 : decode cX2_test 5 = .ok (.invokespecial 304, 3) := dk_183 1 48 (dk_at dksX2_test_0 5 rfl rfl)
theorem dX2_test_8 : decode cX2_test 8 = .ok (.astore_n 1, 1) := dk_76 (dk_at dksX2_test_0 8 rfl rfl)
theorem dX2_test_9 : decode cX2_test 9 = .ok (.aload_n 1, 1) := dk_43 (dk_at dksX2_test_0 9 rfl rfl)
theorem dX2_test_10 : decode cX2_test 10 = .ok (.getfield 307, 3) := dk_180 1 51 (dk_at dksX2_test_0 10 rfl rfl)
theorem dX2_test_13 : decode cX2_test 13 = .ok (.aload_n 0, 1) := dk_42 (dk_at dksX2_test_0 13 rfl rfl)
theorem dX2_test_14 : decode cX2_test 14 = .ok (.invokevirtual 310, 3) := dk_182 1 54 (dk_at dksX2_test_0 14 rfl rfl)
theorem dX2_test_17 : decode cX2_test 17 = .ok (.invokeinterface 203 2, 5) := by decide +kernel
theorem dX2_test_22 : decode cX2_test 22 = .ok (.pop, 1) := dk_87 (dk_at dksX2_test_0 22 rfl rfl)
theorem dX2_test_23 : decode cX2_test 23 = .ok (.aload_n 0, 1) := dk_42 (dk_at dksX2_test_0 23 rfl rfl)
theorem dX2_test_24 : decode cX2_test 24 = .ok (.ldc_w 314, 3) := dk_19 1 58 (dk_at dksX2_test_1 0 rfl rfl)
theorem dX2_test_27 : decode cX2_test 27 = .ok (.invokevirtual 196, 3) := dk_182 0 196 (dk_at dksX2_test_1 3 rfl rfl)
theorem dX2_test_30 : decode cX2_test 30 = .ok (.ifCond .eq 20, 3) := dk_153 0 20 (dk_at dksX2_test_1 6 rfl rfl)
theorem dX2_test_33 : decode cX2_test 33 = .ok (.aload_n 1, 1) := dk_43 (dk_at dksX2_test_1 9 rfl rfl)
theorem dX2_test_34 : decode cX2_test 34 = .ok (.getfield 307, 3) := dk_180 1 51 (dk_at dksX2_test_1 10 rfl rfl)
theorem dX2_test_37 : decode cX2_test 37 = .ok (.aload_n 0, 1) := dk_42 (dk_at dksX2_test_1 13 rfl rfl)
theorem dX2_test_38 : decode cX2_test 38 = .ok (.invokevirtual 310, 3) := dk_182 1 54 (dk_at dksX2_test_1 14 rfl rfl)
theorem dX2_test_41 : decode cX2_test 41 = .ok (.invokeinterface 203 2, 5) := by decide +kernel
theorem dX2_test_46 : decode cX2_test 46 = .ok (.pop, 1) := dk_87 (dk_at dksX2_test_1 22 rfl rfl)
theorem dX2_test_47 : decode cX2_test 47 = .ok (.goto (-24), 3) := dk_167 255 232 (dk_at dksX2_test_2 0 rfl rfl)
theorem dX2_test_50 : decode cX2_test 50 = .ok (.aload_n 1, 1) := dk_43 (dk_at dksX2_test_2 3 rfl rfl)
theorem dX2_test_51 : decode cX2_test 51 = .ok (.areturn, 1) := dk_176 (dk_at dksX2_test_2 4 rfl rfl)
abbrev cX2_both : ByteArray := prog_19_method_26_code
def yX2_both : MethodName := ⟨RX2, "both", "()LGardenChess$Test;"⟩
def dkwX2_both_2 : List UInt8 := [167, 255, 232, 43, 176]
abbrev dktX2_both_2 : List UInt8 := dkwX2_both_2 ++ []
def dkwX2_both_1 : List UInt8 := [19, 1, 63, 182, 0, 196, 153, 0, 20, 43, 180, 1, 51, 42, 182, 1, 60, 185, 0, 203, 2, 0, 87]
abbrev dktX2_both_1 : List UInt8 := dkwX2_both_1 ++ dktX2_both_2
def dkwX2_both_0 : List UInt8 := [187, 1, 46, 89, 4, 183, 1, 48, 76, 43, 180, 1, 51, 42, 182, 1, 60, 185, 0, 203, 2, 0, 87, 42]
abbrev dktX2_both_0 : List UInt8 := dkwX2_both_0 ++ dktX2_both_1
theorem dksX2_both_0 : cX2_both.data.toList.drop 0 = dktX2_both_0 := by decide +kernel
theorem dksX2_both_1 : cX2_both.data.toList.drop 24 = dktX2_both_1 := dk_seg dksX2_both_0 24 rfl rfl
theorem dksX2_both_2 : cX2_both.data.toList.drop 47 = dktX2_both_2 := dk_seg dksX2_both_1 23 rfl rfl
theorem dX2_both_0 : decode cX2_both 0 = .ok (.new 302, 3) := dk_187 1 46 (dk_at dksX2_both_0 0 rfl rfl)
theorem dX2_both_3 : decode cX2_both 3 = .ok (.dup, 1) := dk_89 (dk_at dksX2_both_0 3 rfl rfl)
theorem dX2_both_4 : decode cX2_both 4 = .ok (.iconst 1, 1) := dk_4 (dk_at dksX2_both_0 4 rfl rfl)
theorem dX2_both_5 : decode cX2_both 5 = .ok (.invokespecial 304, 3) := dk_183 1 48 (dk_at dksX2_both_0 5 rfl rfl)
theorem dX2_both_8 : decode cX2_both 8 = .ok (.astore_n 1, 1) := dk_76 (dk_at dksX2_both_0 8 rfl rfl)
theorem dX2_both_9 : decode cX2_both 9 = .ok (.aload_n 1, 1) := dk_43 (dk_at dksX2_both_0 9 rfl rfl)
theorem dX2_both_10 : decode cX2_both 10 = .ok (.getfield 307, 3) := dk_180 1 51 (dk_at dksX2_both_0 10 rfl rfl)
theorem dX2_both_13 : decode cX2_both 13 = .ok (.aload_n 0, 1) := dk_42 (dk_at dksX2_both_0 13 rfl rfl)
theorem dX2_both_14 : decode cX2_both 14 = .ok (.invokevirtual 316, 3) := dk_182 1 60 (dk_at dksX2_both_0 14 rfl rfl)
theorem dX2_both_17 : decode cX2_both 17 = .ok (.invokeinterface 203 2, 5) := by decide +kernel
theorem dX2_both_22 : decode cX2_both 22 = .ok (.pop, 1) := dk_87 (dk_at dksX2_both_0 22 rfl rfl)
theorem dX2_both_23 : decode cX2_both 23 = .ok (.aload_n 0, 1) := dk_42 (dk_at dksX2_both_0 23 rfl rfl)
theorem dX2_both_24 : decode cX2_both 24 = .ok (.ldc_w 319, 3) := dk_19 1 63 (dk_at dksX2_both_1 0 rfl rfl)
theorem dX2_both_27 : decode cX2_both 27 = .ok (.invokevirtual 196, 3) := dk_182 0 196 (dk_at dksX2_both_1 3 rfl rfl)
theorem dX2_both_30 : decode cX2_both 30 = .ok (.ifCond .eq 20, 3) := dk_153 0 20 (dk_at dksX2_both_1 6 rfl rfl)
theorem dX2_both_33 : decode cX2_both 33 = .ok (.aload_n 1, 1) := dk_43 (dk_at dksX2_both_1 9 rfl rfl)
theorem dX2_both_34 : decode cX2_both 34 = .ok (.getfield 307, 3) := dk_180 1 51 (dk_at dksX2_both_1 10 rfl rfl)
theorem dX2_both_37 : decode cX2_both 37 = .ok (.aload_n 0, 1) := dk_42 (dk_at dksX2_both_1 13 rfl rfl)
theorem dX2_both_38 : decode cX2_both 38 = .ok (.invokevirtual 316, 3) := dk_182 1 60 (dk_at dksX2_both_1 14 rfl rfl)
theorem dX2_both_41 : decode cX2_both 41 = .ok (.invokeinterface 203 2, 5) := by decide +kernel
theorem dX2_both_46 : decode cX2_both 46 = .ok (.pop, 1) := dk_87 (dk_at dksX2_both_1 22 rfl rfl)
theorem dX2_both_47 : decode cX2_both 47 = .ok (.goto (-24), 3) := dk_167 255 232 (dk_at dksX2_both_2 0 rfl rfl)
theorem dX2_both_50 : decode cX2_both 50 = .ok (.aload_n 1, 1) := dk_43 (dk_at dksX2_both_2 3 rfl rfl)
theorem dX2_both_51 : decode cX2_both 51 = .ok (.areturn, 1) := dk_176 (dk_at dksX2_both_2 4 rfl rfl)
abbrev cX2_fact : ByteArray := prog_19_method_27_code
def yX2_fact : MethodName := ⟨RX2, "fact", "()LGardenChess$Test;"⟩
def dkwX2_fact_7 : List UInt8 := [183, 1, 82, 176]
abbrev dktX2_fact_7 : List UInt8 := dkwX2_fact_7 ++ []
def dkwX2_fact_6 : List UInt8 := [182, 0, 47, 191, 42, 89, 180, 0, 36, 4, 96, 181, 0, 36, 187, 1, 80, 89, 43, 28, 42, 182, 0, 226]
abbrev dktX2_fact_6 : List UInt8 := dkwX2_fact_6 ++ dktX2_fact_7
def dkwX2_fact_5 : List UInt8 := [28, 16, 60, 159, 0, 25, 28, 16, 62, 159, 0, 19, 28, 16, 61, 159, 0, 13, 42, 4, 42, 180, 0, 36]
abbrev dktX2_fact_5 : List UInt8 := dkwX2_fact_5 ++ dktX2_fact_6
def dkwX2_fact_4 : List UInt8 := [182, 0, 196, 153, 0, 11, 187, 1, 77, 89, 183, 1, 79, 176, 42, 182, 0, 226, 76, 42, 182, 0, 43, 61]
abbrev dktX2_fact_4 : List UInt8 := dkwX2_fact_4 ++ dktX2_fact_5
def dkwX2_fact_3 : List UInt8 := [42, 182, 1, 60, 183, 1, 72, 76, 42, 89, 180, 0, 119, 4, 100, 181, 0, 119, 43, 176, 42, 19, 1, 75]
abbrev dktX2_fact_3 : List UInt8 := dkwX2_fact_3 ++ dktX2_fact_4
def dkwX2_fact_2 : List UInt8 := [43, 176, 42, 19, 1, 68, 182, 0, 196, 153, 0, 35, 42, 42, 180, 0, 61, 182, 1, 9, 187, 1, 70, 89]
abbrev dktX2_fact_2 : List UInt8 := dkwX2_fact_2 ++ dktX2_fact_3
def dkwX2_fact_1 : List UInt8 := [181, 0, 36, 42, 182, 1, 65, 76, 42, 16, 93, 182, 0, 143, 42, 89, 180, 0, 119, 4, 100, 181, 0, 119]
abbrev dktX2_fact_1 : List UInt8 := dkwX2_fact_1 ++ dktX2_fact_2
def dkwX2_fact_0 : List UInt8 := [42, 182, 0, 43, 16, 91, 160, 0, 44, 42, 42, 180, 0, 36, 182, 1, 9, 42, 89, 180, 0, 36, 4, 96]
abbrev dktX2_fact_0 : List UInt8 := dkwX2_fact_0 ++ dktX2_fact_1
theorem dksX2_fact_0 : cX2_fact.data.toList.drop 0 = dktX2_fact_0 := by decide +kernel
theorem dksX2_fact_1 : cX2_fact.data.toList.drop 24 = dktX2_fact_1 := dk_seg dksX2_fact_0 24 rfl rfl
theorem dksX2_fact_2 : cX2_fact.data.toList.drop 48 = dktX2_fact_2 := dk_seg dksX2_fact_1 24 rfl rfl
theorem dksX2_fact_3 : cX2_fact.data.toList.drop 72 = dktX2_fact_3 := dk_seg dksX2_fact_2 24 rfl rfl
theorem dksX2_fact_4 : cX2_fact.data.toList.drop 96 = dktX2_fact_4 := dk_seg dksX2_fact_3 24 rfl rfl
theorem dksX2_fact_5 : cX2_fact.data.toList.drop 120 = dktX2_fact_5 := dk_seg dksX2_fact_4 24 rfl rfl
theorem dksX2_fact_6 : cX2_fact.data.toList.drop 144 = dktX2_fact_6 := dk_seg dksX2_fact_5 24 rfl rfl
theorem dksX2_fact_7 : cX2_fact.data.toList.drop 168 = dktX2_fact_7 := dk_seg dksX2_fact_6 24 rfl rfl
theorem dX2_fact_0 : decode cX2_fact 0 = .ok (.aload_n 0, 1) := dk_42 (dk_at dksX2_fact_0 0 rfl rfl)
theorem dX2_fact_1 : decode cX2_fact 1 = .ok (.invokevirtual 43, 3) := dk_182 0 43 (dk_at dksX2_fact_0 1 rfl rfl)
theorem dX2_fact_4 : decode cX2_fact 4 = .ok (.bipush 91, 2) := dk_16 91 (dk_at dksX2_fact_0 4 rfl rfl)
theorem dX2_fact_6 : decode cX2_fact 6 = .ok (.if_icmp .ne 44, 3) := dk_160 0 44 (dk_at dksX2_fact_0 6 rfl rfl)
theorem dX2_fact_9 : decode cX2_fact 9 = .ok (.aload_n 0, 1) := dk_42 (dk_at dksX2_fact_0 9 rfl rfl)
theorem dX2_fact_10 : decode cX2_fact 10 = .ok (.aload_n 0, 1) := dk_42 (dk_at dksX2_fact_0 10 rfl rfl)
theorem dX2_fact_11 : decode cX2_fact 11 = .ok (.getfield 36, 3) := dk_180 0 36 (dk_at dksX2_fact_0 11 rfl rfl)
theorem dX2_fact_14 : decode cX2_fact 14 = .ok (.invokevirtual 265, 3) := dk_182 1 9 (dk_at dksX2_fact_0 14 rfl rfl)
theorem dX2_fact_17 : decode cX2_fact 17 = .ok (.aload_n 0, 1) := dk_42 (dk_at dksX2_fact_0 17 rfl rfl)
theorem dX2_fact_18 : decode cX2_fact 18 = .ok (.dup, 1) := dk_89 (dk_at dksX2_fact_0 18 rfl rfl)
theorem dX2_fact_19 : decode cX2_fact 19 = .ok (.getfield 36, 3) := dk_180 0 36 (dk_at dksX2_fact_0 19 rfl rfl)
theorem dX2_fact_22 : decode cX2_fact 22 = .ok (.iconst 1, 1) := dk_4 (dk_at dksX2_fact_0 22 rfl rfl)
theorem dX2_fact_23 : decode cX2_fact 23 = .ok (.iadd, 1) := dk_96 (dk_at dksX2_fact_0 23 rfl rfl)
theorem dX2_fact_24 : decode cX2_fact 24 = .ok (.putfield 36, 3) := dk_181 0 36 (dk_at dksX2_fact_1 0 rfl rfl)
theorem dX2_fact_27 : decode cX2_fact 27 = .ok (.aload_n 0, 1) := dk_42 (dk_at dksX2_fact_1 3 rfl rfl)
theorem dX2_fact_28 : decode cX2_fact 28 = .ok (.invokevirtual 321, 3) := dk_182 1 65 (dk_at dksX2_fact_1 4 rfl rfl)
theorem dX2_fact_31 : decode cX2_fact 31 = .ok (.astore_n 1, 1) := dk_76 (dk_at dksX2_fact_1 7 rfl rfl)
theorem dX2_fact_32 : decode cX2_fact 32 = .ok (.aload_n 0, 1) := dk_42 (dk_at dksX2_fact_1 8 rfl rfl)
theorem dX2_fact_33 : decode cX2_fact 33 = .ok (.bipush 93, 2) := dk_16 93 (dk_at dksX2_fact_1 9 rfl rfl)
theorem dX2_fact_35 : decode cX2_fact 35 = .ok (.invokevirtual 143, 3) := dk_182 0 143 (dk_at dksX2_fact_1 11 rfl rfl)
theorem dX2_fact_38 : decode cX2_fact 38 = .ok (.aload_n 0, 1) := dk_42 (dk_at dksX2_fact_1 14 rfl rfl)
theorem dX2_fact_39 : decode cX2_fact 39 = .ok (.dup, 1) := dk_89 (dk_at dksX2_fact_1 15 rfl rfl)
theorem dX2_fact_40 : decode cX2_fact 40 = .ok (.getfield 119, 3) := dk_180 0 119 (dk_at dksX2_fact_1 16 rfl rfl)
theorem dX2_fact_43 : decode cX2_fact 43 = .ok (.iconst 1, 1) := dk_4 (dk_at dksX2_fact_1 19 rfl rfl)
theorem dX2_fact_44 : decode cX2_fact 44 = .ok (.isub, 1) := dk_100 (dk_at dksX2_fact_1 20 rfl rfl)
theorem dX2_fact_45 : decode cX2_fact 45 = .ok (.putfield 119, 3) := dk_181 0 119 (dk_at dksX2_fact_1 21 rfl rfl)
theorem dX2_fact_48 : decode cX2_fact 48 = .ok (.aload_n 1, 1) := dk_43 (dk_at dksX2_fact_2 0 rfl rfl)
theorem dX2_fact_49 : decode cX2_fact 49 = .ok (.areturn, 1) := dk_176 (dk_at dksX2_fact_2 1 rfl rfl)
theorem dX2_fact_50 : decode cX2_fact 50 = .ok (.aload_n 0, 1) := dk_42 (dk_at dksX2_fact_2 2 rfl rfl)
theorem dX2_fact_51 : decode cX2_fact 51 = .ok (.ldc_w 324, 3) := dk_19 1 68 (dk_at dksX2_fact_2 3 rfl rfl)
theorem dX2_fact_54 : decode cX2_fact 54 = .ok (.invokevirtual 196, 3) := dk_182 0 196 (dk_at dksX2_fact_2 6 rfl rfl)
theorem dX2_fact_57 : decode cX2_fact 57 = .ok (.ifCond .eq 35, 3) := dk_153 0 35 (dk_at dksX2_fact_2 9 rfl rfl)
theorem dX2_fact_60 : decode cX2_fact 60 = .ok (.aload_n 0, 1) := dk_42 (dk_at dksX2_fact_2 12 rfl rfl)
theorem dX2_fact_61 : decode cX2_fact 61 = .ok (.aload_n 0, 1) := dk_42 (dk_at dksX2_fact_2 13 rfl rfl)
theorem dX2_fact_62 : decode cX2_fact 62 = .ok (.getfield 61, 3) := dk_180 0 61 (dk_at dksX2_fact_2 14 rfl rfl)
theorem dX2_fact_65 : decode cX2_fact 65 = .ok (.invokevirtual 265, 3) := dk_182 1 9 (dk_at dksX2_fact_2 17 rfl rfl)
theorem dX2_fact_68 : decode cX2_fact 68 = .ok (.new 326, 3) := dk_187 1 70 (dk_at dksX2_fact_2 20 rfl rfl)
theorem dX2_fact_71 : decode cX2_fact 71 = .ok (.dup, 1) := dk_89 (dk_at dksX2_fact_2 23 rfl rfl)
theorem dX2_fact_72 : decode cX2_fact 72 = .ok (.aload_n 0, 1) := dk_42 (dk_at dksX2_fact_3 0 rfl rfl)
theorem dX2_fact_73 : decode cX2_fact 73 = .ok (.invokevirtual 316, 3) := dk_182 1 60 (dk_at dksX2_fact_3 1 rfl rfl)
theorem dX2_fact_76 : decode cX2_fact 76 = .ok (.invokespecial 328, 3) := dk_183 1 72 (dk_at dksX2_fact_3 4 rfl rfl)
theorem dX2_fact_79 : decode cX2_fact 79 = .ok (.astore_n 1, 1) := dk_76 (dk_at dksX2_fact_3 7 rfl rfl)
theorem dX2_fact_80 : decode cX2_fact 80 = .ok (.aload_n 0, 1) := dk_42 (dk_at dksX2_fact_3 8 rfl rfl)
theorem dX2_fact_81 : decode cX2_fact 81 = .ok (.dup, 1) := dk_89 (dk_at dksX2_fact_3 9 rfl rfl)
theorem dX2_fact_82 : decode cX2_fact 82 = .ok (.getfield 119, 3) := dk_180 0 119 (dk_at dksX2_fact_3 10 rfl rfl)
theorem dX2_fact_85 : decode cX2_fact 85 = .ok (.iconst 1, 1) := dk_4 (dk_at dksX2_fact_3 13 rfl rfl)
theorem dX2_fact_86 : decode cX2_fact 86 = .ok (.isub, 1) := dk_100 (dk_at dksX2_fact_3 14 rfl rfl)
theorem dX2_fact_87 : decode cX2_fact 87 = .ok (.putfield 119, 3) := dk_181 0 119 (dk_at dksX2_fact_3 15 rfl rfl)
theorem dX2_fact_90 : decode cX2_fact 90 = .ok (.aload_n 1, 1) := dk_43 (dk_at dksX2_fact_3 18 rfl rfl)
theorem dX2_fact_91 : decode cX2_fact 91 = .ok (.areturn, 1) := dk_176 (dk_at dksX2_fact_3 19 rfl rfl)
theorem dX2_fact_92 : decode cX2_fact 92 = .ok (.aload_n 0, 1) := dk_42 (dk_at dksX2_fact_3 20 rfl rfl)
theorem dX2_fact_93 : decode cX2_fact 93 = .ok (.ldc_w 331, 3) := dk_19 1 75 (dk_at dksX2_fact_3 21 rfl rfl)
theorem dX2_fact_96 : decode cX2_fact 96 = .ok (.invokevirtual 196, 3) := dk_182 0 196 (dk_at dksX2_fact_4 0 rfl rfl)
theorem dX2_fact_99 : decode cX2_fact 99 = .ok (.ifCond .eq 11, 3) := dk_153 0 11 (dk_at dksX2_fact_4 3 rfl rfl)
theorem dX2_fact_102 : decode cX2_fact 102 = .ok (.new 333, 3) := dk_187 1 77 (dk_at dksX2_fact_4 6 rfl rfl)
theorem dX2_fact_105 : decode cX2_fact 105 = .ok (.dup, 1) := dk_89 (dk_at dksX2_fact_4 9 rfl rfl)
theorem dX2_fact_106 : decode cX2_fact 106 = .ok (.invokespecial 335, 3) := dk_183 1 79 (dk_at dksX2_fact_4 10 rfl rfl)
theorem dX2_fact_109 : decode cX2_fact 109 = .ok (.areturn, 1) := dk_176 (dk_at dksX2_fact_4 13 rfl rfl)
theorem dX2_fact_110 : decode cX2_fact 110 = .ok (.aload_n 0, 1) := dk_42 (dk_at dksX2_fact_4 14 rfl rfl)
theorem dX2_fact_111 : decode cX2_fact 111 = .ok (.invokevirtual 226, 3) := dk_182 0 226 (dk_at dksX2_fact_4 15 rfl rfl)
theorem dX2_fact_114 : decode cX2_fact 114 = .ok (.astore_n 1, 1) := dk_76 (dk_at dksX2_fact_4 18 rfl rfl)
theorem dX2_fact_115 : decode cX2_fact 115 = .ok (.aload_n 0, 1) := dk_42 (dk_at dksX2_fact_4 19 rfl rfl)
theorem dX2_fact_116 : decode cX2_fact 116 = .ok (.invokevirtual 43, 3) := dk_182 0 43 (dk_at dksX2_fact_4 20 rfl rfl)
theorem dX2_fact_119 : decode cX2_fact 119 = .ok (.istore_n 2, 1) := dk_61 (dk_at dksX2_fact_4 23 rfl rfl)
theorem dX2_fact_120 : decode cX2_fact 120 = .ok (.iload_n 2, 1) := dk_28 (dk_at dksX2_fact_5 0 rfl rfl)
theorem dX2_fact_121 : decode cX2_fact 121 = .ok (.bipush 60, 2) := dk_16 60 (dk_at dksX2_fact_5 1 rfl rfl)
theorem dX2_fact_123 : decode cX2_fact 123 = .ok (.if_icmp .eq 25, 3) := dk_159 0 25 (dk_at dksX2_fact_5 3 rfl rfl)
theorem dX2_fact_126 : decode cX2_fact 126 = .ok (.iload_n 2, 1) := dk_28 (dk_at dksX2_fact_5 6 rfl rfl)
theorem dX2_fact_127 : decode cX2_fact 127 = .ok (.bipush 62, 2) := dk_16 62 (dk_at dksX2_fact_5 7 rfl rfl)
theorem dX2_fact_129 : decode cX2_fact 129 = .ok (.if_icmp .eq 19, 3) := dk_159 0 19 (dk_at dksX2_fact_5 9 rfl rfl)
theorem dX2_fact_132 : decode cX2_fact 132 = .ok (.iload_n 2, 1) := dk_28 (dk_at dksX2_fact_5 12 rfl rfl)
theorem dX2_fact_133 : decode cX2_fact 133 = .ok (.bipush 61, 2) := dk_16 61 (dk_at dksX2_fact_5 13 rfl rfl)
theorem dX2_fact_135 : decode cX2_fact 135 = .ok (.if_icmp .eq 13, 3) := dk_159 0 13 (dk_at dksX2_fact_5 15 rfl rfl)
theorem dX2_fact_138 : decode cX2_fact 138 = .ok (.aload_n 0, 1) := dk_42 (dk_at dksX2_fact_5 18 rfl rfl)
theorem dX2_fact_139 : decode cX2_fact 139 = .ok (.iconst 1, 1) := dk_4 (dk_at dksX2_fact_5 19 rfl rfl)
theorem dX2_fact_140 : decode cX2_fact 140 = .ok (.aload_n 0, 1) := dk_42 (dk_at dksX2_fact_5 20 rfl rfl)
theorem dX2_fact_141 : decode cX2_fact 141 = .ok (.getfield 36, 3) := dk_180 0 36 (dk_at dksX2_fact_5 21 rfl rfl)
theorem dX2_fact_144 : decode cX2_fact 144 = .ok (.invokevirtual 47, 3) := dk_182 0 47 (dk_at dksX2_fact_6 0 rfl rfl)
theorem dX2_fact_147 : decode cX2_fact 147 = .ok (.athrow, 1) := dk_191 (dk_at dksX2_fact_6 3 rfl rfl)
theorem dX2_fact_148 : decode cX2_fact 148 = .ok (.aload_n 0, 1) := dk_42 (dk_at dksX2_fact_6 4 rfl rfl)
theorem dX2_fact_149 : decode cX2_fact 149 = .ok (.dup, 1) := dk_89 (dk_at dksX2_fact_6 5 rfl rfl)
theorem dX2_fact_150 : decode cX2_fact 150 = .ok (.getfield 36, 3) := dk_180 0 36 (dk_at dksX2_fact_6 6 rfl rfl)
theorem dX2_fact_153 : decode cX2_fact 153 = .ok (.iconst 1, 1) := dk_4 (dk_at dksX2_fact_6 9 rfl rfl)
theorem dX2_fact_154 : decode cX2_fact 154 = .ok (.iadd, 1) := dk_96 (dk_at dksX2_fact_6 10 rfl rfl)
theorem dX2_fact_155 : decode cX2_fact 155 = .ok (.putfield 36, 3) := dk_181 0 36 (dk_at dksX2_fact_6 11 rfl rfl)
theorem dX2_fact_158 : decode cX2_fact 158 = .ok (.new 336, 3) := dk_187 1 80 (dk_at dksX2_fact_6 14 rfl rfl)
theorem dX2_fact_161 : decode cX2_fact 161 = .ok (.dup, 1) := dk_89 (dk_at dksX2_fact_6 17 rfl rfl)
theorem dX2_fact_162 : decode cX2_fact 162 = .ok (.aload_n 1, 1) := dk_43 (dk_at dksX2_fact_6 18 rfl rfl)
theorem dX2_fact_163 : decode cX2_fact 163 = .ok (.iload_n 2, 1) := dk_28 (dk_at dksX2_fact_6 19 rfl rfl)
theorem dX2_fact_164 : decode cX2_fact 164 = .ok (.aload_n 0, 1) := dk_42 (dk_at dksX2_fact_6 20 rfl rfl)
theorem dX2_fact_165 : decode cX2_fact 165 = .ok (.invokevirtual 226, 3) := dk_182 0 226 (dk_at dksX2_fact_6 21 rfl rfl)
theorem dX2_fact_168 : decode cX2_fact 168 = .ok (.invokespecial 338, 3) := dk_183 1 82 (dk_at dksX2_fact_7 0 rfl rfl)
theorem dX2_fact_171 : decode cX2_fact 171 = .ok (.areturn, 1) := dk_176 (dk_at dksX2_fact_7 3 rfl rfl)
abbrev cX20_init : ByteArray := prog_6_method_1_code
def yX20_init : MethodName := ⟨RX20, "<init>", "(Z)V"⟩
def dkwX20_init_0 : List UInt8 := [42, 183, 0, 1, 42, 187, 0, 7, 89, 5, 183, 0, 9, 181, 0, 12, 42, 27, 181, 0, 18, 177]
abbrev dktX20_init_0 : List UInt8 := dkwX20_init_0 ++ []
theorem dksX20_init_0 : cX20_init.data.toList.drop 0 = dktX20_init_0 := by decide +kernel
theorem dX20_init_0 : decode cX20_init 0 = .ok (.aload_n 0, 1) := dk_42 (dk_at dksX20_init_0 0 rfl rfl)
theorem dX20_init_1 : decode cX20_init 1 = .ok (.invokespecial 1, 3) := dk_183 0 1 (dk_at dksX20_init_0 1 rfl rfl)
theorem dX20_init_4 : decode cX20_init 4 = .ok (.aload_n 0, 1) := dk_42 (dk_at dksX20_init_0 4 rfl rfl)
theorem dX20_init_5 : decode cX20_init 5 = .ok (.new 7, 3) := dk_187 0 7 (dk_at dksX20_init_0 5 rfl rfl)
theorem dX20_init_8 : decode cX20_init 8 = .ok (.dup, 1) := dk_89 (dk_at dksX20_init_0 8 rfl rfl)
theorem dX20_init_9 : decode cX20_init 9 = .ok (.iconst 2, 1) := dk_5 (dk_at dksX20_init_0 9 rfl rfl)
theorem dX20_init_10 : decode cX20_init 10 = .ok (.invokespecial 9, 3) := dk_183 0 9 (dk_at dksX20_init_0 10 rfl rfl)
theorem dX20_init_13 : decode cX20_init 13 = .ok (.putfield 12, 3) := dk_181 0 12 (dk_at dksX20_init_0 13 rfl rfl)
theorem dX20_init_16 : decode cX20_init 16 = .ok (.aload_n 0, 1) := dk_42 (dk_at dksX20_init_0 16 rfl rfl)
theorem dX20_init_17 : decode cX20_init 17 = .ok (.iload_n 1, 1) := dk_27 (dk_at dksX20_init_0 17 rfl rfl)
theorem dX20_init_18 : decode cX20_init 18 = .ok (.putfield 18, 3) := dk_181 0 18 (dk_at dksX20_init_0 18 rfl rfl)
theorem dX20_init_21 : decode cX20_init 21 = .ok (.return_, 1) := dk_177 (dk_at dksX20_init_0 21 rfl rfl)
abbrev cX20_holds : ByteArray := prog_6_method_2_code
def yX20_holds : MethodName := ⟨RX20, "holds", "(LGardenChess$Moment;)Z"⟩
def dkwX20_holds_2 : List UInt8 := [154, 0, 7, 4, 167, 0, 4, 3, 172, 132, 2, 1, 167, 255, 203, 42, 180, 0, 18, 172]
abbrev dktX20_holds_2 : List UInt8 := dkwX20_holds_2 ++ []
def dkwX20_holds_1 : List UInt8 := [185, 0, 28, 2, 0, 192, 0, 2, 43, 182, 0, 32, 42, 180, 0, 18, 159, 0, 16, 42, 180, 0, 18]
abbrev dktX20_holds_1 : List UInt8 := dkwX20_holds_1 ++ dktX20_holds_2
def dkwX20_holds_0 : List UInt8 := [3, 61, 28, 42, 180, 0, 12, 185, 0, 22, 1, 0, 162, 0, 46, 42, 180, 0, 12, 28]
abbrev dktX20_holds_0 : List UInt8 := dkwX20_holds_0 ++ dktX20_holds_1
theorem dksX20_holds_0 : cX20_holds.data.toList.drop 0 = dktX20_holds_0 := by decide +kernel
theorem dksX20_holds_1 : cX20_holds.data.toList.drop 20 = dktX20_holds_1 := dk_seg dksX20_holds_0 20 rfl rfl
theorem dksX20_holds_2 : cX20_holds.data.toList.drop 43 = dktX20_holds_2 := dk_seg dksX20_holds_1 23 rfl rfl
theorem dX20_holds_0 : decode cX20_holds 0 = .ok (.iconst 0, 1) := dk_3 (dk_at dksX20_holds_0 0 rfl rfl)
theorem dX20_holds_1 : decode cX20_holds 1 = .ok (.istore_n 2, 1) := dk_61 (dk_at dksX20_holds_0 1 rfl rfl)
theorem dX20_holds_2 : decode cX20_holds 2 = .ok (.iload_n 2, 1) := dk_28 (dk_at dksX20_holds_0 2 rfl rfl)
theorem dX20_holds_3 : decode cX20_holds 3 = .ok (.aload_n 0, 1) := dk_42 (dk_at dksX20_holds_0 3 rfl rfl)
theorem dX20_holds_4 : decode cX20_holds 4 = .ok (.getfield 12, 3) := dk_180 0 12 (dk_at dksX20_holds_0 4 rfl rfl)
theorem dX20_holds_7 : decode cX20_holds 7 = .ok (.invokeinterface 22 1, 5) := by decide +kernel
theorem dX20_holds_12 : decode cX20_holds 12 = .ok (.if_icmp .ge 46, 3) := dk_162 0 46 (dk_at dksX20_holds_0 12 rfl rfl)
theorem dX20_holds_15 : decode cX20_holds 15 = .ok (.aload_n 0, 1) := dk_42 (dk_at dksX20_holds_0 15 rfl rfl)
theorem dX20_holds_16 : decode cX20_holds 16 = .ok (.getfield 12, 3) := dk_180 0 12 (dk_at dksX20_holds_0 16 rfl rfl)
theorem dX20_holds_19 : decode cX20_holds 19 = .ok (.iload_n 2, 1) := dk_28 (dk_at dksX20_holds_0 19 rfl rfl)
theorem dX20_holds_20 : decode cX20_holds 20 = .ok (.invokeinterface 28 2, 5) := by decide +kernel
theorem dX20_holds_25 : decode cX20_holds 25 = .ok (.checkcast 2, 3) := dk_192 0 2 (dk_at dksX20_holds_1 5 rfl rfl)
theorem dX20_holds_28 : decode cX20_holds 28 = .ok (.aload_n 1, 1) := dk_43 (dk_at dksX20_holds_1 8 rfl rfl)
theorem dX20_holds_29 : decode cX20_holds 29 = .ok (.invokevirtual 32, 3) := dk_182 0 32 (dk_at dksX20_holds_1 9 rfl rfl)
theorem dX20_holds_32 : decode cX20_holds 32 = .ok (.aload_n 0, 1) := dk_42 (dk_at dksX20_holds_1 12 rfl rfl)
theorem dX20_holds_33 : decode cX20_holds 33 = .ok (.getfield 18, 3) := dk_180 0 18 (dk_at dksX20_holds_1 13 rfl rfl)
theorem dX20_holds_36 : decode cX20_holds 36 = .ok (.if_icmp .eq 16, 3) := dk_159 0 16 (dk_at dksX20_holds_1 16 rfl rfl)
theorem dX20_holds_39 : decode cX20_holds 39 = .ok (.aload_n 0, 1) := dk_42 (dk_at dksX20_holds_1 19 rfl rfl)
theorem dX20_holds_40 : decode cX20_holds 40 = .ok (.getfield 18, 3) := dk_180 0 18 (dk_at dksX20_holds_1 20 rfl rfl)
theorem dX20_holds_43 : decode cX20_holds 43 = .ok (.ifCond .ne 7, 3) := dk_154 0 7 (dk_at dksX20_holds_2 0 rfl rfl)
theorem dX20_holds_46 : decode cX20_holds 46 = .ok (.iconst 1, 1) := dk_4 (dk_at dksX20_holds_2 3 rfl rfl)
theorem dX20_holds_47 : decode cX20_holds 47 = .ok (.goto 4, 3) := dk_167 0 4 (dk_at dksX20_holds_2 4 rfl rfl)
theorem dX20_holds_50 : decode cX20_holds 50 = .ok (.iconst 0, 1) := dk_3 (dk_at dksX20_holds_2 7 rfl rfl)
theorem dX20_holds_51 : decode cX20_holds 51 = .ok (.ireturn, 1) := dk_172 (dk_at dksX20_holds_2 8 rfl rfl)
theorem dX20_holds_52 : decode cX20_holds 52 = .ok (.iinc 2 1, 3) := dk_132 2 1 (dk_at dksX20_holds_2 9 rfl rfl)
theorem dX20_holds_55 : decode cX20_holds 55 = .ok (.goto (-53), 3) := dk_167 255 203 (dk_at dksX20_holds_2 12 rfl rfl)
theorem dX20_holds_58 : decode cX20_holds 58 = .ok (.aload_n 0, 1) := dk_42 (dk_at dksX20_holds_2 15 rfl rfl)
theorem dX20_holds_59 : decode cX20_holds 59 = .ok (.getfield 18, 3) := dk_180 0 18 (dk_at dksX20_holds_2 16 rfl rfl)
theorem dX20_holds_62 : decode cX20_holds 62 = .ok (.ireturn, 1) := dk_172 (dk_at dksX20_holds_2 19 rfl rfl)
abbrev cX21_init : ByteArray := prog_16_method_1_code
def yX21_init : MethodName := ⟨RX21, "<init>", "(LGardenChess$Test;)V"⟩
def dkwX21_init_0 : List UInt8 := [42, 183, 0, 1, 42, 43, 181, 0, 7, 177]
abbrev dktX21_init_0 : List UInt8 := dkwX21_init_0 ++ []
theorem dksX21_init_0 : cX21_init.data.toList.drop 0 = dktX21_init_0 := by decide +kernel
theorem dX21_init_0 : decode cX21_init 0 = .ok (.aload_n 0, 1) := dk_42 (dk_at dksX21_init_0 0 rfl rfl)
theorem dX21_init_1 : decode cX21_init 1 = .ok (.invokespecial 1, 3) := dk_183 0 1 (dk_at dksX21_init_0 1 rfl rfl)
theorem dX21_init_4 : decode cX21_init 4 = .ok (.aload_n 0, 1) := dk_42 (dk_at dksX21_init_0 4 rfl rfl)
theorem dX21_init_5 : decode cX21_init 5 = .ok (.aload_n 1, 1) := dk_43 (dk_at dksX21_init_0 5 rfl rfl)
theorem dX21_init_6 : decode cX21_init 6 = .ok (.putfield 7, 3) := dk_181 0 7 (dk_at dksX21_init_0 6 rfl rfl)
theorem dX21_init_9 : decode cX21_init 9 = .ok (.return_, 1) := dk_177 (dk_at dksX21_init_0 9 rfl rfl)
abbrev cX21_holds : ByteArray := prog_16_method_2_code
def yX21_holds : MethodName := ⟨RX21, "holds", "(LGardenChess$Moment;)Z"⟩
def dkwX21_holds_0 : List UInt8 := [42, 180, 0, 7, 43, 182, 0, 13, 154, 0, 7, 4, 167, 0, 4, 3, 172]
abbrev dktX21_holds_0 : List UInt8 := dkwX21_holds_0 ++ []
theorem dksX21_holds_0 : cX21_holds.data.toList.drop 0 = dktX21_holds_0 := by decide +kernel
theorem dX21_holds_0 : decode cX21_holds 0 = .ok (.aload_n 0, 1) := dk_42 (dk_at dksX21_holds_0 0 rfl rfl)
theorem dX21_holds_1 : decode cX21_holds 1 = .ok (.getfield 7, 3) := dk_180 0 7 (dk_at dksX21_holds_0 1 rfl rfl)
theorem dX21_holds_4 : decode cX21_holds 4 = .ok (.aload_n 1, 1) := dk_43 (dk_at dksX21_holds_0 4 rfl rfl)
theorem dX21_holds_5 : decode cX21_holds 5 = .ok (.invokevirtual 13, 3) := dk_182 0 13 (dk_at dksX21_holds_0 5 rfl rfl)
theorem dX21_holds_8 : decode cX21_holds 8 = .ok (.ifCond .ne 7, 3) := dk_154 0 7 (dk_at dksX21_holds_0 8 rfl rfl)
theorem dX21_holds_11 : decode cX21_holds 11 = .ok (.iconst 1, 1) := dk_4 (dk_at dksX21_holds_0 11 rfl rfl)
theorem dX21_holds_12 : decode cX21_holds 12 = .ok (.goto 4, 3) := dk_167 0 4 (dk_at dksX21_holds_0 12 rfl rfl)
theorem dX21_holds_15 : decode cX21_holds 15 = .ok (.iconst 0, 1) := dk_3 (dk_at dksX21_holds_0 15 rfl rfl)
theorem dX21_holds_16 : decode cX21_holds 16 = .ok (.ireturn, 1) := dk_172 (dk_at dksX21_holds_0 16 rfl rfl)
abbrev cX22_init : ByteArray := prog_2_method_1_code
def yX22_init : MethodName := ⟨RX22, "<init>", "()V"⟩
theorem dX22_init_0 : decode cX22_init 0 = .ok (.aload_n 0, 1) := by decide +kernel
theorem dX22_init_1 : decode cX22_init 1 = .ok (.invokespecial 1, 3) := by decide +kernel
theorem dX22_init_4 : decode cX22_init 4 = .ok (.return_, 1) := by decide +kernel
abbrev cX22_holds : ByteArray := prog_2_method_2_code
def yX22_holds : MethodName := ⟨RX22, "holds", "(LGardenChess$Moment;)Z"⟩
theorem dX22_holds_0 : decode cX22_holds 0 = .ok (.iconst 1, 1) := by decide +kernel
theorem dX22_holds_1 : decode cX22_holds 1 = .ok (.ireturn, 1) := by decide +kernel
abbrev cX23_init : ByteArray := prog_22_method_1_code
def yX23_init : MethodName := ⟨RX23, "<init>", "(LGardenChess$Value;ILGardenChess$Value;)V"⟩
def dkwX23_init_0 : List UInt8 := [42, 183, 0, 1, 42, 43, 181, 0, 7, 42, 28, 181, 0, 13, 42, 45, 181, 0, 17, 177]
abbrev dktX23_init_0 : List UInt8 := dkwX23_init_0 ++ []
theorem dksX23_init_0 : cX23_init.data.toList.drop 0 = dktX23_init_0 := by decide +kernel
theorem dX23_init_0 : decode cX23_init 0 = .ok (.aload_n 0, 1) := dk_42 (dk_at dksX23_init_0 0 rfl rfl)
theorem dX23_init_1 : decode cX23_init 1 = .ok (.invokespecial 1, 3) := dk_183 0 1 (dk_at dksX23_init_0 1 rfl rfl)
theorem dX23_init_4 : decode cX23_init 4 = .ok (.aload_n 0, 1) := dk_42 (dk_at dksX23_init_0 4 rfl rfl)
theorem dX23_init_5 : decode cX23_init 5 = .ok (.aload_n 1, 1) := dk_43 (dk_at dksX23_init_0 5 rfl rfl)
theorem dX23_init_6 : decode cX23_init 6 = .ok (.putfield 7, 3) := dk_181 0 7 (dk_at dksX23_init_0 6 rfl rfl)
theorem dX23_init_9 : decode cX23_init 9 = .ok (.aload_n 0, 1) := dk_42 (dk_at dksX23_init_0 9 rfl rfl)
theorem dX23_init_10 : decode cX23_init 10 = .ok (.iload_n 2, 1) := dk_28 (dk_at dksX23_init_0 10 rfl rfl)
theorem dX23_init_11 : decode cX23_init 11 = .ok (.putfield 13, 3) := dk_181 0 13 (dk_at dksX23_init_0 11 rfl rfl)
theorem dX23_init_14 : decode cX23_init 14 = .ok (.aload_n 0, 1) := dk_42 (dk_at dksX23_init_0 14 rfl rfl)
theorem dX23_init_15 : decode cX23_init 15 = .ok (.aload_n 3, 1) := dk_45 (dk_at dksX23_init_0 15 rfl rfl)
theorem dX23_init_16 : decode cX23_init 16 = .ok (.putfield 17, 3) := dk_181 0 17 (dk_at dksX23_init_0 16 rfl rfl)
theorem dX23_init_19 : decode cX23_init 19 = .ok (.return_, 1) := dk_177 (dk_at dksX23_init_0 19 rfl rfl)
abbrev cX23_holds : ByteArray := prog_22_method_2_code
def yX23_holds : MethodName := ⟨RX23, "holds", "(LGardenChess$Moment;)Z"⟩
def dkwX23_holds_3 : List UInt8 := [154, 0, 7, 4, 167, 0, 4, 3, 172]
abbrev dktX23_holds_3 : List UInt8 := dkwX23_holds_3 ++ []
def dkwX23_holds_2 : List UInt8 := [16, 62, 160, 0, 18, 32, 22, 4, 148, 158, 0, 7, 4, 167, 0, 19, 3, 167, 0, 15, 32, 22, 4, 148]
abbrev dktX23_holds_2 : List UInt8 := dkwX23_holds_2 ++ dktX23_holds_3
def dkwX23_holds_1 : List UInt8 := [16, 60, 160, 0, 18, 32, 22, 4, 148, 156, 0, 7, 4, 167, 0, 43, 3, 167, 0, 39, 42, 180, 0, 13]
abbrev dktX23_holds_1 : List UInt8 := dkwX23_holds_1 ++ dktX23_holds_2
def dkwX23_holds_0 : List UInt8 := [42, 180, 0, 7, 43, 182, 0, 20, 65, 42, 180, 0, 17, 43, 182, 0, 20, 55, 4, 42, 180, 0, 13]
abbrev dktX23_holds_0 : List UInt8 := dkwX23_holds_0 ++ dktX23_holds_1
theorem dksX23_holds_0 : cX23_holds.data.toList.drop 0 = dktX23_holds_0 := by decide +kernel
theorem dksX23_holds_1 : cX23_holds.data.toList.drop 23 = dktX23_holds_1 := dk_seg dksX23_holds_0 23 rfl rfl
theorem dksX23_holds_2 : cX23_holds.data.toList.drop 47 = dktX23_holds_2 := dk_seg dksX23_holds_1 24 rfl rfl
theorem dksX23_holds_3 : cX23_holds.data.toList.drop 71 = dktX23_holds_3 := dk_seg dksX23_holds_2 24 rfl rfl
theorem dX23_holds_0 : decode cX23_holds 0 = .ok (.aload_n 0, 1) := dk_42 (dk_at dksX23_holds_0 0 rfl rfl)
theorem dX23_holds_1 : decode cX23_holds 1 = .ok (.getfield 7, 3) := dk_180 0 7 (dk_at dksX23_holds_0 1 rfl rfl)
theorem dX23_holds_4 : decode cX23_holds 4 = .ok (.aload_n 1, 1) := dk_43 (dk_at dksX23_holds_0 4 rfl rfl)
theorem dX23_holds_5 : decode cX23_holds 5 = .ok (.invokevirtual 20, 3) := dk_182 0 20 (dk_at dksX23_holds_0 5 rfl rfl)
theorem dX23_holds_8 : decode cX23_holds 8 = .ok (.lstore_n 2, 1) := dk_65 (dk_at dksX23_holds_0 8 rfl rfl)
theorem dX23_holds_9 : decode cX23_holds 9 = .ok (.aload_n 0, 1) := dk_42 (dk_at dksX23_holds_0 9 rfl rfl)
theorem dX23_holds_10 : decode cX23_holds 10 = .ok (.getfield 17, 3) := dk_180 0 17 (dk_at dksX23_holds_0 10 rfl rfl)
theorem dX23_holds_13 : decode cX23_holds 13 = .ok (.aload_n 1, 1) := dk_43 (dk_at dksX23_holds_0 13 rfl rfl)
theorem dX23_holds_14 : decode cX23_holds 14 = .ok (.invokevirtual 20, 3) := dk_182 0 20 (dk_at dksX23_holds_0 14 rfl rfl)
theorem dX23_holds_17 : decode cX23_holds 17 = .ok (.lstore 4, 2) := dk_55 4 (dk_at dksX23_holds_0 17 rfl rfl)
theorem dX23_holds_19 : decode cX23_holds 19 = .ok (.aload_n 0, 1) := dk_42 (dk_at dksX23_holds_0 19 rfl rfl)
theorem dX23_holds_20 : decode cX23_holds 20 = .ok (.getfield 13, 3) := dk_180 0 13 (dk_at dksX23_holds_0 20 rfl rfl)
theorem dX23_holds_23 : decode cX23_holds 23 = .ok (.bipush 60, 2) := dk_16 60 (dk_at dksX23_holds_1 0 rfl rfl)
theorem dX23_holds_25 : decode cX23_holds 25 = .ok (.if_icmp .ne 18, 3) := dk_160 0 18 (dk_at dksX23_holds_1 2 rfl rfl)
theorem dX23_holds_28 : decode cX23_holds 28 = .ok (.lload_n 2, 1) := dk_32 (dk_at dksX23_holds_1 5 rfl rfl)
theorem dX23_holds_29 : decode cX23_holds 29 = .ok (.lload 4, 2) := dk_22 4 (dk_at dksX23_holds_1 6 rfl rfl)
theorem dX23_holds_31 : decode cX23_holds 31 = .ok (.lcmp, 1) := dk_148 (dk_at dksX23_holds_1 8 rfl rfl)
theorem dX23_holds_32 : decode cX23_holds 32 = .ok (.ifCond .ge 7, 3) := dk_156 0 7 (dk_at dksX23_holds_1 9 rfl rfl)
theorem dX23_holds_35 : decode cX23_holds 35 = .ok (.iconst 1, 1) := dk_4 (dk_at dksX23_holds_1 12 rfl rfl)
theorem dX23_holds_36 : decode cX23_holds 36 = .ok (.goto 43, 3) := dk_167 0 43 (dk_at dksX23_holds_1 13 rfl rfl)
theorem dX23_holds_39 : decode cX23_holds 39 = .ok (.iconst 0, 1) := dk_3 (dk_at dksX23_holds_1 16 rfl rfl)
theorem dX23_holds_40 : decode cX23_holds 40 = .ok (.goto 39, 3) := dk_167 0 39 (dk_at dksX23_holds_1 17 rfl rfl)
theorem dX23_holds_43 : decode cX23_holds 43 = .ok (.aload_n 0, 1) := dk_42 (dk_at dksX23_holds_1 20 rfl rfl)
theorem dX23_holds_44 : decode cX23_holds 44 = .ok (.getfield 13, 3) := dk_180 0 13 (dk_at dksX23_holds_1 21 rfl rfl)
theorem dX23_holds_47 : decode cX23_holds 47 = .ok (.bipush 62, 2) := dk_16 62 (dk_at dksX23_holds_2 0 rfl rfl)
theorem dX23_holds_49 : decode cX23_holds 49 = .ok (.if_icmp .ne 18, 3) := dk_160 0 18 (dk_at dksX23_holds_2 2 rfl rfl)
theorem dX23_holds_52 : decode cX23_holds 52 = .ok (.lload_n 2, 1) := dk_32 (dk_at dksX23_holds_2 5 rfl rfl)
theorem dX23_holds_53 : decode cX23_holds 53 = .ok (.lload 4, 2) := dk_22 4 (dk_at dksX23_holds_2 6 rfl rfl)
theorem dX23_holds_55 : decode cX23_holds 55 = .ok (.lcmp, 1) := dk_148 (dk_at dksX23_holds_2 8 rfl rfl)
theorem dX23_holds_56 : decode cX23_holds 56 = .ok (.ifCond .le 7, 3) := dk_158 0 7 (dk_at dksX23_holds_2 9 rfl rfl)
theorem dX23_holds_59 : decode cX23_holds 59 = .ok (.iconst 1, 1) := dk_4 (dk_at dksX23_holds_2 12 rfl rfl)
theorem dX23_holds_60 : decode cX23_holds 60 = .ok (.goto 19, 3) := dk_167 0 19 (dk_at dksX23_holds_2 13 rfl rfl)
theorem dX23_holds_63 : decode cX23_holds 63 = .ok (.iconst 0, 1) := dk_3 (dk_at dksX23_holds_2 16 rfl rfl)
theorem dX23_holds_64 : decode cX23_holds 64 = .ok (.goto 15, 3) := dk_167 0 15 (dk_at dksX23_holds_2 17 rfl rfl)
theorem dX23_holds_67 : decode cX23_holds 67 = .ok (.lload_n 2, 1) := dk_32 (dk_at dksX23_holds_2 20 rfl rfl)
theorem dX23_holds_68 : decode cX23_holds 68 = .ok (.lload 4, 2) := dk_22 4 (dk_at dksX23_holds_2 21 rfl rfl)
theorem dX23_holds_70 : decode cX23_holds 70 = .ok (.lcmp, 1) := dk_148 (dk_at dksX23_holds_2 23 rfl rfl)
theorem dX23_holds_71 : decode cX23_holds 71 = .ok (.ifCond .ne 7, 3) := dk_154 0 7 (dk_at dksX23_holds_3 0 rfl rfl)
theorem dX23_holds_74 : decode cX23_holds 74 = .ok (.iconst 1, 1) := dk_4 (dk_at dksX23_holds_3 3 rfl rfl)
theorem dX23_holds_75 : decode cX23_holds 75 = .ok (.goto 4, 3) := dk_167 0 4 (dk_at dksX23_holds_3 4 rfl rfl)
theorem dX23_holds_78 : decode cX23_holds 78 = .ok (.iconst 0, 1) := dk_3 (dk_at dksX23_holds_3 7 rfl rfl)
theorem dX23_holds_79 : decode cX23_holds 79 = .ok (.ireturn, 1) := dk_172 (dk_at dksX23_holds_3 8 rfl rfl)
abbrev cX3_init : ByteArray := prog_7_method_1_code
def yX3_init : MethodName := ⟨RX3, "<init>", "()V"⟩
def dkwX3_init_0 : List UInt8 := [42, 1, 1, 3, 3, 183, 0, 1, 177]
abbrev dktX3_init_0 : List UInt8 := dkwX3_init_0 ++ []
theorem dksX3_init_0 : cX3_init.data.toList.drop 0 = dktX3_init_0 := by decide +kernel
theorem dX3_init_0 : decode cX3_init 0 = .ok (.aload_n 0, 1) := dk_42 (dk_at dksX3_init_0 0 rfl rfl)
theorem dX3_init_1 : decode cX3_init 1 = .ok (.aconst_null, 1) := dk_1 (dk_at dksX3_init_0 1 rfl rfl)
theorem dX3_init_2 : decode cX3_init 2 = .ok (.aconst_null, 1) := dk_1 (dk_at dksX3_init_0 2 rfl rfl)
theorem dX3_init_3 : decode cX3_init 3 = .ok (.iconst 0, 1) := dk_3 (dk_at dksX3_init_0 3 rfl rfl)
theorem dX3_init_4 : decode cX3_init 4 = .ok (.iconst 0, 1) := dk_3 (dk_at dksX3_init_0 4 rfl rfl)
theorem dX3_init_5 : decode cX3_init 5 = .ok (.invokespecial 1, 3) := dk_183 0 1 (dk_at dksX3_init_0 5 rfl rfl)
theorem dX3_init_8 : decode cX3_init 8 = .ok (.return_, 1) := dk_177 (dk_at dksX3_init_0 8 rfl rfl)
abbrev cX4_init : ByteArray := prog_13_method_1_code
def yX4_init : MethodName := ⟨RX4, "<init>", "()V"⟩
def dkwX4_init_0 : List UInt8 := [42, 183, 0, 1, 42, 16, 11, 188, 11, 181, 0, 7, 177]
abbrev dktX4_init_0 : List UInt8 := dkwX4_init_0 ++ []
theorem dksX4_init_0 : cX4_init.data.toList.drop 0 = dktX4_init_0 := by decide +kernel
theorem dX4_init_0 : decode cX4_init 0 = .ok (.aload_n 0, 1) := dk_42 (dk_at dksX4_init_0 0 rfl rfl)
theorem dX4_init_1 : decode cX4_init 1 = .ok (.invokespecial 1, 3) := dk_183 0 1 (dk_at dksX4_init_0 1 rfl rfl)
theorem dX4_init_4 : decode cX4_init 4 = .ok (.aload_n 0, 1) := dk_42 (dk_at dksX4_init_0 4 rfl rfl)
theorem dX4_init_5 : decode cX4_init 5 = .ok (.bipush 11, 2) := dk_16 11 (dk_at dksX4_init_0 5 rfl rfl)
theorem dX4_init_7 : decode cX4_init 7 = .ok (.newarray .long, 2) := dk_188_11 (dk_at dksX4_init_0 7 rfl rfl)
theorem dX4_init_9 : decode cX4_init 9 = .ok (.putfield 7, 3) := dk_181 0 7 (dk_at dksX4_init_0 9 rfl rfl)
theorem dX4_init_12 : decode cX4_init 12 = .ok (.return_, 1) := dk_177 (dk_at dksX4_init_0 12 rfl rfl)
abbrev cX5_init : ByteArray := prog_14_method_1_code
def yX5_init : MethodName := ⟨RX5, "<init>", "()V"⟩
def dkwX5_init_0 : List UInt8 := [42, 183, 0, 3, 42, 17, 0, 200, 188, 10, 181, 0, 9, 42, 17, 0, 200, 188, 10, 181, 0, 15, 177]
abbrev dktX5_init_0 : List UInt8 := dkwX5_init_0 ++ []
theorem dksX5_init_0 : cX5_init.data.toList.drop 0 = dktX5_init_0 := by decide +kernel
theorem dX5_init_0 : decode cX5_init 0 = .ok (.aload_n 0, 1) := dk_42 (dk_at dksX5_init_0 0 rfl rfl)
theorem dX5_init_1 : decode cX5_init 1 = .ok (.invokespecial 3, 3) := dk_183 0 3 (dk_at dksX5_init_0 1 rfl rfl)
theorem dX5_init_4 : decode cX5_init 4 = .ok (.aload_n 0, 1) := dk_42 (dk_at dksX5_init_0 4 rfl rfl)
theorem dX5_init_5 : decode cX5_init 5 = .ok (.sipush 200, 3) := dk_17 0 200 (dk_at dksX5_init_0 5 rfl rfl)
theorem dX5_init_8 : decode cX5_init 8 = .ok (.newarray .int, 2) := dk_188_10 (dk_at dksX5_init_0 8 rfl rfl)
theorem dX5_init_10 : decode cX5_init 10 = .ok (.putfield 9, 3) := dk_181 0 9 (dk_at dksX5_init_0 10 rfl rfl)
theorem dX5_init_13 : decode cX5_init 13 = .ok (.aload_n 0, 1) := dk_42 (dk_at dksX5_init_0 13 rfl rfl)
theorem dX5_init_14 : decode cX5_init 14 = .ok (.sipush 200, 3) := dk_17 0 200 (dk_at dksX5_init_0 14 rfl rfl)
theorem dX5_init_17 : decode cX5_init 17 = .ok (.newarray .int, 2) := dk_188_10 (dk_at dksX5_init_0 17 rfl rfl)
theorem dX5_init_19 : decode cX5_init 19 = .ok (.putfield 15, 3) := dk_181 0 15 (dk_at dksX5_init_0 19 rfl rfl)
theorem dX5_init_22 : decode cX5_init 22 = .ok (.return_, 1) := dk_177 (dk_at dksX5_init_0 22 rfl rfl)
abbrev cX5_add : ByteArray := prog_14_method_2_code
def yX5_add : MethodName := ⟨RX5, "add", "(II)V"⟩
def dkwX5_add_1 : List UInt8 := [180, 0, 18, 4, 96, 181, 0, 18, 177]
abbrev dktX5_add_1 : List UInt8 := dkwX5_add_1 ++ []
def dkwX5_add_0 : List UInt8 := [42, 180, 0, 9, 42, 180, 0, 18, 27, 79, 42, 180, 0, 15, 42, 180, 0, 18, 28, 79, 42, 89]
abbrev dktX5_add_0 : List UInt8 := dkwX5_add_0 ++ dktX5_add_1
theorem dksX5_add_0 : cX5_add.data.toList.drop 0 = dktX5_add_0 := by decide +kernel
theorem dksX5_add_1 : cX5_add.data.toList.drop 22 = dktX5_add_1 := dk_seg dksX5_add_0 22 rfl rfl
theorem dX5_add_0 : decode cX5_add 0 = .ok (.aload_n 0, 1) := dk_42 (dk_at dksX5_add_0 0 rfl rfl)
theorem dX5_add_1 : decode cX5_add 1 = .ok (.getfield 9, 3) := dk_180 0 9 (dk_at dksX5_add_0 1 rfl rfl)
theorem dX5_add_4 : decode cX5_add 4 = .ok (.aload_n 0, 1) := dk_42 (dk_at dksX5_add_0 4 rfl rfl)
theorem dX5_add_5 : decode cX5_add 5 = .ok (.getfield 18, 3) := dk_180 0 18 (dk_at dksX5_add_0 5 rfl rfl)
theorem dX5_add_8 : decode cX5_add 8 = .ok (.iload_n 1, 1) := dk_27 (dk_at dksX5_add_0 8 rfl rfl)
theorem dX5_add_9 : decode cX5_add 9 = .ok (.iastore, 1) := dk_79 (dk_at dksX5_add_0 9 rfl rfl)
theorem dX5_add_10 : decode cX5_add 10 = .ok (.aload_n 0, 1) := dk_42 (dk_at dksX5_add_0 10 rfl rfl)
theorem dX5_add_11 : decode cX5_add 11 = .ok (.getfield 15, 3) := dk_180 0 15 (dk_at dksX5_add_0 11 rfl rfl)
theorem dX5_add_14 : decode cX5_add 14 = .ok (.aload_n 0, 1) := dk_42 (dk_at dksX5_add_0 14 rfl rfl)
theorem dX5_add_15 : decode cX5_add 15 = .ok (.getfield 18, 3) := dk_180 0 18 (dk_at dksX5_add_0 15 rfl rfl)
theorem dX5_add_18 : decode cX5_add 18 = .ok (.iload_n 2, 1) := dk_28 (dk_at dksX5_add_0 18 rfl rfl)
theorem dX5_add_19 : decode cX5_add 19 = .ok (.iastore, 1) := dk_79 (dk_at dksX5_add_0 19 rfl rfl)
theorem dX5_add_20 : decode cX5_add 20 = .ok (.aload_n 0, 1) := dk_42 (dk_at dksX5_add_0 20 rfl rfl)
theorem dX5_add_21 : decode cX5_add 21 = .ok (.dup, 1) := dk_89 (dk_at dksX5_add_0 21 rfl rfl)
theorem dX5_add_22 : decode cX5_add 22 = .ok (.getfield 18, 3) := dk_180 0 18 (dk_at dksX5_add_1 0 rfl rfl)
theorem dX5_add_25 : decode cX5_add 25 = .ok (.iconst 1, 1) := dk_4 (dk_at dksX5_add_1 3 rfl rfl)
theorem dX5_add_26 : decode cX5_add 26 = .ok (.iadd, 1) := dk_96 (dk_at dksX5_add_1 4 rfl rfl)
theorem dX5_add_27 : decode cX5_add 27 = .ok (.putfield 18, 3) := dk_181 0 18 (dk_at dksX5_add_1 5 rfl rfl)
theorem dX5_add_30 : decode cX5_add 30 = .ok (.return_, 1) := dk_177 (dk_at dksX5_add_1 8 rfl rfl)
abbrev cX6_init : ByteArray := prog_20_method_1_code
def yX6_init : MethodName := ⟨RX6, "<init>", "(LGardenChess;)V"⟩
def dkwX6_init_1 : List UInt8 := [181, 0, 19, 42, 16, 6, 188, 10, 181, 0, 22, 42, 16, 40, 8, 197, 0, 25, 2, 181, 0, 27, 177]
abbrev dktX6_init_1 : List UInt8 := dkwX6_init_1 ++ []
def dkwX6_init_0 : List UInt8 := [42, 43, 181, 0, 3, 42, 183, 0, 9, 42, 16, 8, 188, 10, 181, 0, 15, 42, 16, 25, 188, 10]
abbrev dktX6_init_0 : List UInt8 := dkwX6_init_0 ++ dktX6_init_1
theorem dksX6_init_0 : cX6_init.data.toList.drop 0 = dktX6_init_0 := by decide +kernel
theorem dksX6_init_1 : cX6_init.data.toList.drop 22 = dktX6_init_1 := dk_seg dksX6_init_0 22 rfl rfl
theorem dX6_init_0 : decode cX6_init 0 = .ok (.aload_n 0, 1) := dk_42 (dk_at dksX6_init_0 0 rfl rfl)
theorem dX6_init_1 : decode cX6_init 1 = .ok (.aload_n 1, 1) := dk_43 (dk_at dksX6_init_0 1 rfl rfl)
theorem dX6_init_2 : decode cX6_init 2 = .ok (.putfield 3, 3) := dk_181 0 3 (dk_at dksX6_init_0 2 rfl rfl)
theorem dX6_init_5 : decode cX6_init 5 = .ok (.aload_n 0, 1) := dk_42 (dk_at dksX6_init_0 5 rfl rfl)
theorem dX6_init_6 : decode cX6_init 6 = .ok (.invokespecial 9, 3) := dk_183 0 9 (dk_at dksX6_init_0 6 rfl rfl)
theorem dX6_init_9 : decode cX6_init 9 = .ok (.aload_n 0, 1) := dk_42 (dk_at dksX6_init_0 9 rfl rfl)
theorem dX6_init_10 : decode cX6_init 10 = .ok (.bipush 8, 2) := dk_16 8 (dk_at dksX6_init_0 10 rfl rfl)
theorem dX6_init_12 : decode cX6_init 12 = .ok (.newarray .int, 2) := dk_188_10 (dk_at dksX6_init_0 12 rfl rfl)
theorem dX6_init_14 : decode cX6_init 14 = .ok (.putfield 15, 3) := dk_181 0 15 (dk_at dksX6_init_0 14 rfl rfl)
theorem dX6_init_17 : decode cX6_init 17 = .ok (.aload_n 0, 1) := dk_42 (dk_at dksX6_init_0 17 rfl rfl)
theorem dX6_init_18 : decode cX6_init 18 = .ok (.bipush 25, 2) := dk_16 25 (dk_at dksX6_init_0 18 rfl rfl)
theorem dX6_init_20 : decode cX6_init 20 = .ok (.newarray .int, 2) := dk_188_10 (dk_at dksX6_init_0 20 rfl rfl)
theorem dX6_init_22 : decode cX6_init 22 = .ok (.putfield 19, 3) := dk_181 0 19 (dk_at dksX6_init_1 0 rfl rfl)
theorem dX6_init_25 : decode cX6_init 25 = .ok (.aload_n 0, 1) := dk_42 (dk_at dksX6_init_1 3 rfl rfl)
theorem dX6_init_26 : decode cX6_init 26 = .ok (.bipush 6, 2) := dk_16 6 (dk_at dksX6_init_1 4 rfl rfl)
theorem dX6_init_28 : decode cX6_init 28 = .ok (.newarray .int, 2) := dk_188_10 (dk_at dksX6_init_1 6 rfl rfl)
theorem dX6_init_30 : decode cX6_init 30 = .ok (.putfield 22, 3) := dk_181 0 22 (dk_at dksX6_init_1 8 rfl rfl)
theorem dX6_init_33 : decode cX6_init 33 = .ok (.aload_n 0, 1) := dk_42 (dk_at dksX6_init_1 11 rfl rfl)
theorem dX6_init_34 : decode cX6_init 34 = .ok (.bipush 40, 2) := dk_16 40 (dk_at dksX6_init_1 12 rfl rfl)
theorem dX6_init_36 : decode cX6_init 36 = .ok (.iconst 5, 1) := dk_8 (dk_at dksX6_init_1 14 rfl rfl)
theorem dX6_init_37 : decode cX6_init 37 = .ok (.multianewarray 25 2, 4) := by decide +kernel
theorem dX6_init_41 : decode cX6_init 41 = .ok (.putfield 27, 3) := dk_181 0 27 (dk_at dksX6_init_1 19 rfl rfl)
theorem dX6_init_44 : decode cX6_init 44 = .ok (.return_, 1) := dk_177 (dk_at dksX6_init_1 22 rfl rfl)
abbrev cX6_stands : ByteArray := prog_20_method_3_code
def yX6_stands : MethodName := ⟨RX6, "stands", "()V"⟩
def dkwX6_stands_4 : List UInt8 := [167, 255, 193, 177]
abbrev dktX6_stands_4 : List UInt8 := dkwX6_stands_4 ++ []
def dkwX6_stands_3 : List UInt8 := [182, 0, 84, 180, 0, 88, 153, 0, 13, 42, 89, 180, 0, 81, 4, 96, 181, 0, 81, 132, 1, 1]
abbrev dktX6_stands_3 : List UInt8 := dkwX6_stands_3 ++ dktX6_stands_4
def dkwX6_stands_2 : List UInt8 := [159, 0, 18, 42, 180, 0, 19, 42, 180, 0, 15, 27, 46, 27, 79, 167, 0, 27, 42, 180, 0, 3, 27]
abbrev dktX6_stands_2 : List UInt8 := dkwX6_stands_2 ++ dktX6_stands_3
def dkwX6_stands_1 : List UInt8 := [167, 255, 240, 3, 60, 27, 42, 180, 0, 3, 182, 0, 40, 162, 0, 58, 42, 180, 0, 15, 27, 46, 2]
abbrev dktX6_stands_1 : List UInt8 := dkwX6_stands_1 ++ dktX6_stands_2
def dkwX6_stands_0 : List UInt8 := [42, 3, 181, 0, 81, 3, 60, 27, 16, 25, 162, 0, 16, 42, 180, 0, 19, 27, 2, 79, 132, 1, 1]
abbrev dktX6_stands_0 : List UInt8 := dkwX6_stands_0 ++ dktX6_stands_1
theorem dksX6_stands_0 : cX6_stands.data.toList.drop 0 = dktX6_stands_0 := by decide +kernel
theorem dksX6_stands_1 : cX6_stands.data.toList.drop 23 = dktX6_stands_1 := dk_seg dksX6_stands_0 23 rfl rfl
theorem dksX6_stands_2 : cX6_stands.data.toList.drop 46 = dktX6_stands_2 := dk_seg dksX6_stands_1 23 rfl rfl
theorem dksX6_stands_3 : cX6_stands.data.toList.drop 69 = dktX6_stands_3 := dk_seg dksX6_stands_2 23 rfl rfl
theorem dksX6_stands_4 : cX6_stands.data.toList.drop 91 = dktX6_stands_4 := dk_seg dksX6_stands_3 22 rfl rfl
theorem dX6_stands_0 : decode cX6_stands 0 = .ok (.aload_n 0, 1) := dk_42 (dk_at dksX6_stands_0 0 rfl rfl)
theorem dX6_stands_1 : decode cX6_stands 1 = .ok (.iconst 0, 1) := dk_3 (dk_at dksX6_stands_0 1 rfl rfl)
theorem dX6_stands_2 : decode cX6_stands 2 = .ok (.putfield 81, 3) := dk_181 0 81 (dk_at dksX6_stands_0 2 rfl rfl)
theorem dX6_stands_5 : decode cX6_stands 5 = .ok (.iconst 0, 1) := dk_3 (dk_at dksX6_stands_0 5 rfl rfl)
theorem dX6_stands_6 : decode cX6_stands 6 = .ok (.istore_n 1, 1) := dk_60 (dk_at dksX6_stands_0 6 rfl rfl)
theorem dX6_stands_7 : decode cX6_stands 7 = .ok (.iload_n 1, 1) := dk_27 (dk_at dksX6_stands_0 7 rfl rfl)
theorem dX6_stands_8 : decode cX6_stands 8 = .ok (.bipush 25, 2) := dk_16 25 (dk_at dksX6_stands_0 8 rfl rfl)
theorem dX6_stands_10 : decode cX6_stands 10 = .ok (.if_icmp .ge 16, 3) := dk_162 0 16 (dk_at dksX6_stands_0 10 rfl rfl)
theorem dX6_stands_13 : decode cX6_stands 13 = .ok (.aload_n 0, 1) := dk_42 (dk_at dksX6_stands_0 13 rfl rfl)
theorem dX6_stands_14 : decode cX6_stands 14 = .ok (.getfield 19, 3) := dk_180 0 19 (dk_at dksX6_stands_0 14 rfl rfl)
theorem dX6_stands_17 : decode cX6_stands 17 = .ok (.iload_n 1, 1) := dk_27 (dk_at dksX6_stands_0 17 rfl rfl)
theorem dX6_stands_18 : decode cX6_stands 18 = .ok (.iconst (-1), 1) := dk_2 (dk_at dksX6_stands_0 18 rfl rfl)
theorem dX6_stands_19 : decode cX6_stands 19 = .ok (.iastore, 1) := dk_79 (dk_at dksX6_stands_0 19 rfl rfl)
theorem dX6_stands_20 : decode cX6_stands 20 = .ok (.iinc 1 1, 3) := dk_132 1 1 (dk_at dksX6_stands_0 20 rfl rfl)
theorem dX6_stands_23 : decode cX6_stands 23 = .ok (.goto (-16), 3) := dk_167 255 240 (dk_at dksX6_stands_1 0 rfl rfl)
theorem dX6_stands_26 : decode cX6_stands 26 = .ok (.iconst 0, 1) := dk_3 (dk_at dksX6_stands_1 3 rfl rfl)
theorem dX6_stands_27 : decode cX6_stands 27 = .ok (.istore_n 1, 1) := dk_60 (dk_at dksX6_stands_1 4 rfl rfl)
theorem dX6_stands_28 : decode cX6_stands 28 = .ok (.iload_n 1, 1) := dk_27 (dk_at dksX6_stands_1 5 rfl rfl)
theorem dX6_stands_29 : decode cX6_stands 29 = .ok (.aload_n 0, 1) := dk_42 (dk_at dksX6_stands_1 6 rfl rfl)
theorem dX6_stands_30 : decode cX6_stands 30 = .ok (.getfield 3, 3) := dk_180 0 3 (dk_at dksX6_stands_1 7 rfl rfl)
theorem dX6_stands_33 : decode cX6_stands 33 = .ok (.invokevirtual 40, 3) := dk_182 0 40 (dk_at dksX6_stands_1 10 rfl rfl)
theorem dX6_stands_36 : decode cX6_stands 36 = .ok (.if_icmp .ge 58, 3) := dk_162 0 58 (dk_at dksX6_stands_1 13 rfl rfl)
theorem dX6_stands_39 : decode cX6_stands 39 = .ok (.aload_n 0, 1) := dk_42 (dk_at dksX6_stands_1 16 rfl rfl)
theorem dX6_stands_40 : decode cX6_stands 40 = .ok (.getfield 15, 3) := dk_180 0 15 (dk_at dksX6_stands_1 17 rfl rfl)
theorem dX6_stands_43 : decode cX6_stands 43 = .ok (.iload_n 1, 1) := dk_27 (dk_at dksX6_stands_1 20 rfl rfl)
theorem dX6_stands_44 : decode cX6_stands 44 = .ok (.iaload, 1) := dk_46 (dk_at dksX6_stands_1 21 rfl rfl)
theorem dX6_stands_45 : decode cX6_stands 45 = .ok (.iconst (-1), 1) := dk_2 (dk_at dksX6_stands_1 22 rfl rfl)
theorem dX6_stands_46 : decode cX6_stands 46 = .ok (.if_icmp .eq 18, 3) := dk_159 0 18 (dk_at dksX6_stands_2 0 rfl rfl)
theorem dX6_stands_49 : decode cX6_stands 49 = .ok (.aload_n 0, 1) := dk_42 (dk_at dksX6_stands_2 3 rfl rfl)
theorem dX6_stands_50 : decode cX6_stands 50 = .ok (.getfield 19, 3) := dk_180 0 19 (dk_at dksX6_stands_2 4 rfl rfl)
theorem dX6_stands_53 : decode cX6_stands 53 = .ok (.aload_n 0, 1) := dk_42 (dk_at dksX6_stands_2 7 rfl rfl)
theorem dX6_stands_54 : decode cX6_stands 54 = .ok (.getfield 15, 3) := dk_180 0 15 (dk_at dksX6_stands_2 8 rfl rfl)
theorem dX6_stands_57 : decode cX6_stands 57 = .ok (.iload_n 1, 1) := dk_27 (dk_at dksX6_stands_2 11 rfl rfl)
theorem dX6_stands_58 : decode cX6_stands 58 = .ok (.iaload, 1) := dk_46 (dk_at dksX6_stands_2 12 rfl rfl)
theorem dX6_stands_59 : decode cX6_stands 59 = .ok (.iload_n 1, 1) := dk_27 (dk_at dksX6_stands_2 13 rfl rfl)
theorem dX6_stands_60 : decode cX6_stands 60 = .ok (.iastore, 1) := dk_79 (dk_at dksX6_stands_2 14 rfl rfl)
theorem dX6_stands_61 : decode cX6_stands 61 = .ok (.goto 27, 3) := dk_167 0 27 (dk_at dksX6_stands_2 15 rfl rfl)
theorem dX6_stands_64 : decode cX6_stands 64 = .ok (.aload_n 0, 1) := dk_42 (dk_at dksX6_stands_2 18 rfl rfl)
theorem dX6_stands_65 : decode cX6_stands 65 = .ok (.getfield 3, 3) := dk_180 0 3 (dk_at dksX6_stands_2 19 rfl rfl)
theorem dX6_stands_68 : decode cX6_stands 68 = .ok (.iload_n 1, 1) := dk_27 (dk_at dksX6_stands_2 22 rfl rfl)
theorem dX6_stands_69 : decode cX6_stands 69 = .ok (.invokevirtual 84, 3) := dk_182 0 84 (dk_at dksX6_stands_3 0 rfl rfl)
theorem dX6_stands_72 : decode cX6_stands 72 = .ok (.getfield 88, 3) := dk_180 0 88 (dk_at dksX6_stands_3 3 rfl rfl)
theorem dX6_stands_75 : decode cX6_stands 75 = .ok (.ifCond .eq 13, 3) := dk_153 0 13 (dk_at dksX6_stands_3 6 rfl rfl)
theorem dX6_stands_78 : decode cX6_stands 78 = .ok (.aload_n 0, 1) := dk_42 (dk_at dksX6_stands_3 9 rfl rfl)
theorem dX6_stands_79 : decode cX6_stands 79 = .ok (.dup, 1) := dk_89 (dk_at dksX6_stands_3 10 rfl rfl)
theorem dX6_stands_80 : decode cX6_stands 80 = .ok (.getfield 81, 3) := dk_180 0 81 (dk_at dksX6_stands_3 11 rfl rfl)
theorem dX6_stands_83 : decode cX6_stands 83 = .ok (.iconst 1, 1) := dk_4 (dk_at dksX6_stands_3 14 rfl rfl)
theorem dX6_stands_84 : decode cX6_stands 84 = .ok (.iadd, 1) := dk_96 (dk_at dksX6_stands_3 15 rfl rfl)
theorem dX6_stands_85 : decode cX6_stands 85 = .ok (.putfield 81, 3) := dk_181 0 81 (dk_at dksX6_stands_3 16 rfl rfl)
theorem dX6_stands_88 : decode cX6_stands 88 = .ok (.iinc 1 1, 3) := dk_132 1 1 (dk_at dksX6_stands_3 19 rfl rfl)
theorem dX6_stands_91 : decode cX6_stands 91 = .ok (.goto (-63), 3) := dk_167 255 193 (dk_at dksX6_stands_4 0 rfl rfl)
theorem dX6_stands_94 : decode cX6_stands 94 = .ok (.return_, 1) := dk_177 (dk_at dksX6_stands_4 3 rfl rfl)
abbrev cX6_begins : ByteArray := prog_20_method_2_code
def yX6_begins : MethodName := ⟨RX6, "begins", "()V"⟩
def dkwX6_begins_4 : List UInt8 := [27, 185, 0, 68, 2, 0, 192, 0, 74, 180, 0, 76, 79, 132, 1, 1, 167, 255, 214, 42, 182, 0, 78, 177]
abbrev dktX6_begins_4 : List UInt8 := dkwX6_begins_4 ++ []
def dkwX6_begins_3 : List UInt8 := [180, 0, 3, 182, 0, 56, 162, 0, 37, 42, 180, 0, 22, 27, 42, 180, 0, 3, 180, 0, 59, 180, 0, 63]
abbrev dktX6_begins_3 : List UInt8 := dkwX6_begins_3 ++ dktX6_begins_4
def dkwX6_begins_2 : List UInt8 := [42, 180, 0, 3, 27, 182, 0, 44, 180, 0, 53, 96, 79, 132, 1, 1, 167, 255, 211, 3, 60, 27, 42]
abbrev dktX6_begins_2 : List UInt8 := dkwX6_begins_2 ++ dktX6_begins_3
def dkwX6_begins_1 : List UInt8 := [182, 0, 40, 162, 0, 40, 42, 180, 0, 15, 27, 8, 42, 180, 0, 3, 27, 182, 0, 44, 180, 0, 48, 104]
abbrev dktX6_begins_1 : List UInt8 := dkwX6_begins_1 ++ dktX6_begins_2
def dkwX6_begins_0 : List UInt8 := [42, 3, 181, 0, 30, 42, 3, 181, 0, 34, 42, 3, 181, 0, 37, 3, 60, 27, 42, 180, 0, 3]
abbrev dktX6_begins_0 : List UInt8 := dkwX6_begins_0 ++ dktX6_begins_1
theorem dksX6_begins_0 : cX6_begins.data.toList.drop 0 = dktX6_begins_0 := by decide +kernel
theorem dksX6_begins_1 : cX6_begins.data.toList.drop 22 = dktX6_begins_1 := dk_seg dksX6_begins_0 22 rfl rfl
theorem dksX6_begins_2 : cX6_begins.data.toList.drop 46 = dktX6_begins_2 := dk_seg dksX6_begins_1 24 rfl rfl
theorem dksX6_begins_3 : cX6_begins.data.toList.drop 69 = dktX6_begins_3 := dk_seg dksX6_begins_2 23 rfl rfl
theorem dksX6_begins_4 : cX6_begins.data.toList.drop 93 = dktX6_begins_4 := dk_seg dksX6_begins_3 24 rfl rfl
theorem dX6_begins_0 : decode cX6_begins 0 = .ok (.aload_n 0, 1) := dk_42 (dk_at dksX6_begins_0 0 rfl rfl)
theorem dX6_begins_1 : decode cX6_begins 1 = .ok (.iconst 0, 1) := dk_3 (dk_at dksX6_begins_0 1 rfl rfl)
theorem dX6_begins_2 : decode cX6_begins 2 = .ok (.putfield 30, 3) := dk_181 0 30 (dk_at dksX6_begins_0 2 rfl rfl)
theorem dX6_begins_5 : decode cX6_begins 5 = .ok (.aload_n 0, 1) := dk_42 (dk_at dksX6_begins_0 5 rfl rfl)
theorem dX6_begins_6 : decode cX6_begins 6 = .ok (.iconst 0, 1) := dk_3 (dk_at dksX6_begins_0 6 rfl rfl)
theorem dX6_begins_7 : decode cX6_begins 7 = .ok (.putfield 34, 3) := dk_181 0 34 (dk_at dksX6_begins_0 7 rfl rfl)
theorem dX6_begins_10 : decode cX6_begins 10 = .ok (.aload_n 0, 1) := dk_42 (dk_at dksX6_begins_0 10 rfl rfl)
theorem dX6_begins_11 : decode cX6_begins 11 = .ok (.iconst 0, 1) := dk_3 (dk_at dksX6_begins_0 11 rfl rfl)
theorem dX6_begins_12 : decode cX6_begins 12 = .ok (.putfield 37, 3) := dk_181 0 37 (dk_at dksX6_begins_0 12 rfl rfl)
theorem dX6_begins_15 : decode cX6_begins 15 = .ok (.iconst 0, 1) := dk_3 (dk_at dksX6_begins_0 15 rfl rfl)
theorem dX6_begins_16 : decode cX6_begins 16 = .ok (.istore_n 1, 1) := dk_60 (dk_at dksX6_begins_0 16 rfl rfl)
theorem dX6_begins_17 : decode cX6_begins 17 = .ok (.iload_n 1, 1) := dk_27 (dk_at dksX6_begins_0 17 rfl rfl)
theorem dX6_begins_18 : decode cX6_begins 18 = .ok (.aload_n 0, 1) := dk_42 (dk_at dksX6_begins_0 18 rfl rfl)
theorem dX6_begins_19 : decode cX6_begins 19 = .ok (.getfield 3, 3) := dk_180 0 3 (dk_at dksX6_begins_0 19 rfl rfl)
theorem dX6_begins_22 : decode cX6_begins 22 = .ok (.invokevirtual 40, 3) := dk_182 0 40 (dk_at dksX6_begins_1 0 rfl rfl)
theorem dX6_begins_25 : decode cX6_begins 25 = .ok (.if_icmp .ge 40, 3) := dk_162 0 40 (dk_at dksX6_begins_1 3 rfl rfl)
theorem dX6_begins_28 : decode cX6_begins 28 = .ok (.aload_n 0, 1) := dk_42 (dk_at dksX6_begins_1 6 rfl rfl)
theorem dX6_begins_29 : decode cX6_begins 29 = .ok (.getfield 15, 3) := dk_180 0 15 (dk_at dksX6_begins_1 7 rfl rfl)
theorem dX6_begins_32 : decode cX6_begins 32 = .ok (.iload_n 1, 1) := dk_27 (dk_at dksX6_begins_1 10 rfl rfl)
theorem dX6_begins_33 : decode cX6_begins 33 = .ok (.iconst 5, 1) := dk_8 (dk_at dksX6_begins_1 11 rfl rfl)
theorem dX6_begins_34 : decode cX6_begins 34 = .ok (.aload_n 0, 1) := dk_42 (dk_at dksX6_begins_1 12 rfl rfl)
theorem dX6_begins_35 : decode cX6_begins 35 = .ok (.getfield 3, 3) := dk_180 0 3 (dk_at dksX6_begins_1 13 rfl rfl)
theorem dX6_begins_38 : decode cX6_begins 38 = .ok (.iload_n 1, 1) := dk_27 (dk_at dksX6_begins_1 16 rfl rfl)
theorem dX6_begins_39 : decode cX6_begins 39 = .ok (.invokevirtual 44, 3) := dk_182 0 44 (dk_at dksX6_begins_1 17 rfl rfl)
theorem dX6_begins_42 : decode cX6_begins 42 = .ok (.getfield 48, 3) := dk_180 0 48 (dk_at dksX6_begins_1 20 rfl rfl)
theorem dX6_begins_45 : decode cX6_begins 45 = .ok (.imul, 1) := dk_104 (dk_at dksX6_begins_1 23 rfl rfl)
theorem dX6_begins_46 : decode cX6_begins 46 = .ok (.aload_n 0, 1) := dk_42 (dk_at dksX6_begins_2 0 rfl rfl)
theorem dX6_begins_47 : decode cX6_begins 47 = .ok (.getfield 3, 3) := dk_180 0 3 (dk_at dksX6_begins_2 1 rfl rfl)
theorem dX6_begins_50 : decode cX6_begins 50 = .ok (.iload_n 1, 1) := dk_27 (dk_at dksX6_begins_2 4 rfl rfl)
theorem dX6_begins_51 : decode cX6_begins 51 = .ok (.invokevirtual 44, 3) := dk_182 0 44 (dk_at dksX6_begins_2 5 rfl rfl)
theorem dX6_begins_54 : decode cX6_begins 54 = .ok (.getfield 53, 3) := dk_180 0 53 (dk_at dksX6_begins_2 8 rfl rfl)
theorem dX6_begins_57 : decode cX6_begins 57 = .ok (.iadd, 1) := dk_96 (dk_at dksX6_begins_2 11 rfl rfl)
theorem dX6_begins_58 : decode cX6_begins 58 = .ok (.iastore, 1) := dk_79 (dk_at dksX6_begins_2 12 rfl rfl)
theorem dX6_begins_59 : decode cX6_begins 59 = .ok (.iinc 1 1, 3) := dk_132 1 1 (dk_at dksX6_begins_2 13 rfl rfl)
theorem dX6_begins_62 : decode cX6_begins 62 = .ok (.goto (-45), 3) := dk_167 255 211 (dk_at dksX6_begins_2 16 rfl rfl)
theorem dX6_begins_65 : decode cX6_begins 65 = .ok (.iconst 0, 1) := dk_3 (dk_at dksX6_begins_2 19 rfl rfl)
theorem dX6_begins_66 : decode cX6_begins 66 = .ok (.istore_n 1, 1) := dk_60 (dk_at dksX6_begins_2 20 rfl rfl)
theorem dX6_begins_67 : decode cX6_begins 67 = .ok (.iload_n 1, 1) := dk_27 (dk_at dksX6_begins_2 21 rfl rfl)
theorem dX6_begins_68 : decode cX6_begins 68 = .ok (.aload_n 0, 1) := dk_42 (dk_at dksX6_begins_2 22 rfl rfl)
theorem dX6_begins_69 : decode cX6_begins 69 = .ok (.getfield 3, 3) := dk_180 0 3 (dk_at dksX6_begins_3 0 rfl rfl)
theorem dX6_begins_72 : decode cX6_begins 72 = .ok (.invokevirtual 56, 3) := dk_182 0 56 (dk_at dksX6_begins_3 3 rfl rfl)
theorem dX6_begins_75 : decode cX6_begins 75 = .ok (.if_icmp .ge 37, 3) := dk_162 0 37 (dk_at dksX6_begins_3 6 rfl rfl)
theorem dX6_begins_78 : decode cX6_begins 78 = .ok (.aload_n 0, 1) := dk_42 (dk_at dksX6_begins_3 9 rfl rfl)
theorem dX6_begins_79 : decode cX6_begins 79 = .ok (.getfield 22, 3) := dk_180 0 22 (dk_at dksX6_begins_3 10 rfl rfl)
theorem dX6_begins_82 : decode cX6_begins 82 = .ok (.iload_n 1, 1) := dk_27 (dk_at dksX6_begins_3 13 rfl rfl)
theorem dX6_begins_83 : decode cX6_begins 83 = .ok (.aload_n 0, 1) := dk_42 (dk_at dksX6_begins_3 14 rfl rfl)
theorem dX6_begins_84 : decode cX6_begins 84 = .ok (.getfield 3, 3) := dk_180 0 3 (dk_at dksX6_begins_3 15 rfl rfl)
theorem dX6_begins_87 : decode cX6_begins 87 = .ok (.getfield 59, 3) := dk_180 0 59 (dk_at dksX6_begins_3 18 rfl rfl)
theorem dX6_begins_90 : decode cX6_begins 90 = .ok (.getfield 63, 3) := dk_180 0 63 (dk_at dksX6_begins_3 21 rfl rfl)
theorem dX6_begins_93 : decode cX6_begins 93 = .ok (.iload_n 1, 1) := dk_27 (dk_at dksX6_begins_4 0 rfl rfl)
theorem dX6_begins_94 : decode cX6_begins 94 = .ok (.invokeinterface 68 2, 5) := by decide +kernel
theorem dX6_begins_99 : decode cX6_begins 99 = .ok (.checkcast 74, 3) := dk_192 0 74 (dk_at dksX6_begins_4 6 rfl rfl)
theorem dX6_begins_102 : decode cX6_begins 102 = .ok (.getfield 76, 3) := dk_180 0 76 (dk_at dksX6_begins_4 9 rfl rfl)
theorem dX6_begins_105 : decode cX6_begins 105 = .ok (.iastore, 1) := dk_79 (dk_at dksX6_begins_4 12 rfl rfl)
theorem dX6_begins_106 : decode cX6_begins 106 = .ok (.iinc 1 1, 3) := dk_132 1 1 (dk_at dksX6_begins_4 13 rfl rfl)
theorem dX6_begins_109 : decode cX6_begins 109 = .ok (.goto (-42), 3) := dk_167 255 214 (dk_at dksX6_begins_4 16 rfl rfl)
theorem dX6_begins_112 : decode cX6_begins 112 = .ok (.aload_n 0, 1) := dk_42 (dk_at dksX6_begins_4 19 rfl rfl)
theorem dX6_begins_113 : decode cX6_begins 113 = .ok (.invokevirtual 78, 3) := dk_182 0 78 (dk_at dksX6_begins_4 20 rfl rfl)
theorem dX6_begins_116 : decode cX6_begins 116 = .ok (.return_, 1) := dk_177 (dk_at dksX6_begins_4 23 rfl rfl)
abbrev cX6_isOver : ByteArray := prog_20_method_8_code
def yX6_isOver : MethodName := ⟨RX6, "isOver", "()Z"⟩
def dkwX6_isOver_1 : List UInt8 := [180, 0, 3, 180, 0, 134, 180, 0, 116, 154, 0, 7, 4, 167, 0, 4, 3, 172]
abbrev dktX6_isOver_1 : List UInt8 := dkwX6_isOver_1 ++ []
def dkwX6_isOver_0 : List UInt8 := [42, 42, 180, 0, 34, 42, 180, 0, 3, 180, 0, 134, 182, 0, 138, 42, 180, 0, 81, 157, 0, 16, 42]
abbrev dktX6_isOver_0 : List UInt8 := dkwX6_isOver_0 ++ dktX6_isOver_1
theorem dksX6_isOver_0 : cX6_isOver.data.toList.drop 0 = dktX6_isOver_0 := by decide +kernel
theorem dksX6_isOver_1 : cX6_isOver.data.toList.drop 23 = dktX6_isOver_1 := dk_seg dksX6_isOver_0 23 rfl rfl
theorem dX6_isOver_0 : decode cX6_isOver 0 = .ok (.aload_n 0, 1) := dk_42 (dk_at dksX6_isOver_0 0 rfl rfl)
theorem dX6_isOver_1 : decode cX6_isOver 1 = .ok (.aload_n 0, 1) := dk_42 (dk_at dksX6_isOver_0 1 rfl rfl)
theorem dX6_isOver_2 : decode cX6_isOver 2 = .ok (.getfield 34, 3) := dk_180 0 34 (dk_at dksX6_isOver_0 2 rfl rfl)
theorem dX6_isOver_5 : decode cX6_isOver 5 = .ok (.aload_n 0, 1) := dk_42 (dk_at dksX6_isOver_0 5 rfl rfl)
theorem dX6_isOver_6 : decode cX6_isOver 6 = .ok (.getfield 3, 3) := dk_180 0 3 (dk_at dksX6_isOver_0 6 rfl rfl)
theorem dX6_isOver_9 : decode cX6_isOver 9 = .ok (.getfield 134, 3) := dk_180 0 134 (dk_at dksX6_isOver_0 9 rfl rfl)
theorem dX6_isOver_12 : decode cX6_isOver 12 = .ok (.invokevirtual 138, 3) := dk_182 0 138 (dk_at dksX6_isOver_0 12 rfl rfl)
theorem dX6_isOver_15 : decode cX6_isOver 15 = .ok (.aload_n 0, 1) := dk_42 (dk_at dksX6_isOver_0 15 rfl rfl)
theorem dX6_isOver_16 : decode cX6_isOver 16 = .ok (.getfield 81, 3) := dk_180 0 81 (dk_at dksX6_isOver_0 16 rfl rfl)
theorem dX6_isOver_19 : decode cX6_isOver 19 = .ok (.ifCond .gt 16, 3) := dk_157 0 16 (dk_at dksX6_isOver_0 19 rfl rfl)
theorem dX6_isOver_22 : decode cX6_isOver 22 = .ok (.aload_n 0, 1) := dk_42 (dk_at dksX6_isOver_0 22 rfl rfl)
theorem dX6_isOver_23 : decode cX6_isOver 23 = .ok (.getfield 3, 3) := dk_180 0 3 (dk_at dksX6_isOver_1 0 rfl rfl)
theorem dX6_isOver_26 : decode cX6_isOver 26 = .ok (.getfield 134, 3) := dk_180 0 134 (dk_at dksX6_isOver_1 3 rfl rfl)
theorem dX6_isOver_29 : decode cX6_isOver 29 = .ok (.getfield 116, 3) := dk_180 0 116 (dk_at dksX6_isOver_1 6 rfl rfl)
theorem dX6_isOver_32 : decode cX6_isOver 32 = .ok (.ifCond .ne 7, 3) := dk_154 0 7 (dk_at dksX6_isOver_1 9 rfl rfl)
theorem dX6_isOver_35 : decode cX6_isOver 35 = .ok (.iconst 1, 1) := dk_4 (dk_at dksX6_isOver_1 12 rfl rfl)
theorem dX6_isOver_36 : decode cX6_isOver 36 = .ok (.goto 4, 3) := dk_167 0 4 (dk_at dksX6_isOver_1 13 rfl rfl)
theorem dX6_isOver_39 : decode cX6_isOver 39 = .ok (.iconst 0, 1) := dk_3 (dk_at dksX6_isOver_1 16 rfl rfl)
theorem dX6_isOver_40 : decode cX6_isOver 40 = .ok (.ireturn, 1) := dk_172 (dk_at dksX6_isOver_1 17 rfl rfl)
abbrev cX6_finds : ByteArray := prog_20_method_6_code
def yX6_finds : MethodName := ⟨RX6, "finds", "(ILGardenChess$Moves;)V"⟩
def dkwX6_finds_4 : List UInt8 := [167, 255, 202, 132, 3, 1, 167, 255, 164, 177]
abbrev dktX6_finds_4 : List UInt8 := dkwX6_finds_4 ++ []
def dkwX6_finds_3 : List UInt8 := [162, 0, 20, 42, 29, 21, 4, 182, 0, 126, 153, 0, 10, 44, 29, 21, 4, 182, 0, 130, 132, 4, 1]
abbrev dktX6_finds_3 : List UInt8 := dkwX6_finds_3 ++ dktX6_finds_4
def dkwX6_finds_2 : List UInt8 := [180, 0, 59, 180, 0, 121, 104, 162, 0, 43, 21, 4, 8, 112, 42, 180, 0, 3, 180, 0, 59, 180, 0, 123]
abbrev dktX6_finds_2 : List UInt8 := dkwX6_finds_2 ++ dktX6_finds_3
def dkwX6_finds_1 : List UInt8 := [182, 0, 44, 180, 0, 94, 27, 159, 0, 6, 167, 0, 63, 3, 54, 4, 21, 4, 8, 42, 180, 0, 3]
abbrev dktX6_finds_1 : List UInt8 := dkwX6_finds_1 ++ dktX6_finds_2
def dkwX6_finds_0 : List UInt8 := [44, 3, 181, 0, 116, 3, 62, 29, 42, 180, 0, 3, 182, 0, 40, 162, 0, 87, 42, 180, 0, 3, 29]
abbrev dktX6_finds_0 : List UInt8 := dkwX6_finds_0 ++ dktX6_finds_1
theorem dksX6_finds_0 : cX6_finds.data.toList.drop 0 = dktX6_finds_0 := by decide +kernel
theorem dksX6_finds_1 : cX6_finds.data.toList.drop 23 = dktX6_finds_1 := dk_seg dksX6_finds_0 23 rfl rfl
theorem dksX6_finds_2 : cX6_finds.data.toList.drop 46 = dktX6_finds_2 := dk_seg dksX6_finds_1 23 rfl rfl
theorem dksX6_finds_3 : cX6_finds.data.toList.drop 70 = dktX6_finds_3 := dk_seg dksX6_finds_2 24 rfl rfl
theorem dksX6_finds_4 : cX6_finds.data.toList.drop 93 = dktX6_finds_4 := dk_seg dksX6_finds_3 23 rfl rfl
theorem dX6_finds_0 : decode cX6_finds 0 = .ok (.aload_n 2, 1) := dk_44 (dk_at dksX6_finds_0 0 rfl rfl)
theorem dX6_finds_1 : decode cX6_finds 1 = .ok (.iconst 0, 1) := dk_3 (dk_at dksX6_finds_0 1 rfl rfl)
theorem dX6_finds_2 : decode cX6_finds 2 = .ok (.putfield 116, 3) := dk_181 0 116 (dk_at dksX6_finds_0 2 rfl rfl)
theorem dX6_finds_5 : decode cX6_finds 5 = .ok (.iconst 0, 1) := dk_3 (dk_at dksX6_finds_0 5 rfl rfl)
theorem dX6_finds_6 : decode cX6_finds 6 = .ok (.istore_n 3, 1) := dk_62 (dk_at dksX6_finds_0 6 rfl rfl)
theorem dX6_finds_7 : decode cX6_finds 7 = .ok (.iload_n 3, 1) := dk_29 (dk_at dksX6_finds_0 7 rfl rfl)
theorem dX6_finds_8 : decode cX6_finds 8 = .ok (.aload_n 0, 1) := dk_42 (dk_at dksX6_finds_0 8 rfl rfl)
theorem dX6_finds_9 : decode cX6_finds 9 = .ok (.getfield 3, 3) := dk_180 0 3 (dk_at dksX6_finds_0 9 rfl rfl)
theorem dX6_finds_12 : decode cX6_finds 12 = .ok (.invokevirtual 40, 3) := dk_182 0 40 (dk_at dksX6_finds_0 12 rfl rfl)
theorem dX6_finds_15 : decode cX6_finds 15 = .ok (.if_icmp .ge 87, 3) := dk_162 0 87 (dk_at dksX6_finds_0 15 rfl rfl)
theorem dX6_finds_18 : decode cX6_finds 18 = .ok (.aload_n 0, 1) := dk_42 (dk_at dksX6_finds_0 18 rfl rfl)
theorem dX6_finds_19 : decode cX6_finds 19 = .ok (.getfield 3, 3) := dk_180 0 3 (dk_at dksX6_finds_0 19 rfl rfl)
theorem dX6_finds_22 : decode cX6_finds 22 = .ok (.iload_n 3, 1) := dk_29 (dk_at dksX6_finds_0 22 rfl rfl)
theorem dX6_finds_23 : decode cX6_finds 23 = .ok (.invokevirtual 44, 3) := dk_182 0 44 (dk_at dksX6_finds_1 0 rfl rfl)
theorem dX6_finds_26 : decode cX6_finds 26 = .ok (.getfield 94, 3) := dk_180 0 94 (dk_at dksX6_finds_1 3 rfl rfl)
theorem dX6_finds_29 : decode cX6_finds 29 = .ok (.iload_n 1, 1) := dk_27 (dk_at dksX6_finds_1 6 rfl rfl)
theorem dX6_finds_30 : decode cX6_finds 30 = .ok (.if_icmp .eq 6, 3) := dk_159 0 6 (dk_at dksX6_finds_1 7 rfl rfl)
theorem dX6_finds_33 : decode cX6_finds 33 = .ok (.goto 63, 3) := dk_167 0 63 (dk_at dksX6_finds_1 10 rfl rfl)
theorem dX6_finds_36 : decode cX6_finds 36 = .ok (.iconst 0, 1) := dk_3 (dk_at dksX6_finds_1 13 rfl rfl)
theorem dX6_finds_37 : decode cX6_finds 37 = .ok (.istore 4, 2) := dk_54 4 (dk_at dksX6_finds_1 14 rfl rfl)
theorem dX6_finds_39 : decode cX6_finds 39 = .ok (.iload 4, 2) := dk_21 4 (dk_at dksX6_finds_1 16 rfl rfl)
theorem dX6_finds_41 : decode cX6_finds 41 = .ok (.iconst 5, 1) := dk_8 (dk_at dksX6_finds_1 18 rfl rfl)
theorem dX6_finds_42 : decode cX6_finds 42 = .ok (.aload_n 0, 1) := dk_42 (dk_at dksX6_finds_1 19 rfl rfl)
theorem dX6_finds_43 : decode cX6_finds 43 = .ok (.getfield 3, 3) := dk_180 0 3 (dk_at dksX6_finds_1 20 rfl rfl)
theorem dX6_finds_46 : decode cX6_finds 46 = .ok (.getfield 59, 3) := dk_180 0 59 (dk_at dksX6_finds_2 0 rfl rfl)
theorem dX6_finds_49 : decode cX6_finds 49 = .ok (.getfield 121, 3) := dk_180 0 121 (dk_at dksX6_finds_2 3 rfl rfl)
theorem dX6_finds_52 : decode cX6_finds 52 = .ok (.imul, 1) := dk_104 (dk_at dksX6_finds_2 6 rfl rfl)
theorem dX6_finds_53 : decode cX6_finds 53 = .ok (.if_icmp .ge 43, 3) := dk_162 0 43 (dk_at dksX6_finds_2 7 rfl rfl)
theorem dX6_finds_56 : decode cX6_finds 56 = .ok (.iload 4, 2) := dk_21 4 (dk_at dksX6_finds_2 10 rfl rfl)
theorem dX6_finds_58 : decode cX6_finds 58 = .ok (.iconst 5, 1) := dk_8 (dk_at dksX6_finds_2 12 rfl rfl)
theorem dX6_finds_59 : decode cX6_finds 59 = .ok (.irem, 1) := dk_112 (dk_at dksX6_finds_2 13 rfl rfl)
theorem dX6_finds_60 : decode cX6_finds 60 = .ok (.aload_n 0, 1) := dk_42 (dk_at dksX6_finds_2 14 rfl rfl)
theorem dX6_finds_61 : decode cX6_finds 61 = .ok (.getfield 3, 3) := dk_180 0 3 (dk_at dksX6_finds_2 15 rfl rfl)
theorem dX6_finds_64 : decode cX6_finds 64 = .ok (.getfield 59, 3) := dk_180 0 59 (dk_at dksX6_finds_2 18 rfl rfl)
theorem dX6_finds_67 : decode cX6_finds 67 = .ok (.getfield 123, 3) := dk_180 0 123 (dk_at dksX6_finds_2 21 rfl rfl)
theorem dX6_finds_70 : decode cX6_finds 70 = .ok (.if_icmp .ge 20, 3) := dk_162 0 20 (dk_at dksX6_finds_3 0 rfl rfl)
theorem dX6_finds_73 : decode cX6_finds 73 = .ok (.aload_n 0, 1) := dk_42 (dk_at dksX6_finds_3 3 rfl rfl)
theorem dX6_finds_74 : decode cX6_finds 74 = .ok (.iload_n 3, 1) := dk_29 (dk_at dksX6_finds_3 4 rfl rfl)
theorem dX6_finds_75 : decode cX6_finds 75 = .ok (.iload 4, 2) := dk_21 4 (dk_at dksX6_finds_3 5 rfl rfl)
theorem dX6_finds_77 : decode cX6_finds 77 = .ok (.invokevirtual 126, 3) := dk_182 0 126 (dk_at dksX6_finds_3 7 rfl rfl)
theorem dX6_finds_80 : decode cX6_finds 80 = .ok (.ifCond .eq 10, 3) := dk_153 0 10 (dk_at dksX6_finds_3 10 rfl rfl)
theorem dX6_finds_83 : decode cX6_finds 83 = .ok (.aload_n 2, 1) := dk_44 (dk_at dksX6_finds_3 13 rfl rfl)
theorem dX6_finds_84 : decode cX6_finds 84 = .ok (.iload_n 3, 1) := dk_29 (dk_at dksX6_finds_3 14 rfl rfl)
theorem dX6_finds_85 : decode cX6_finds 85 = .ok (.iload 4, 2) := dk_21 4 (dk_at dksX6_finds_3 15 rfl rfl)
theorem dX6_finds_87 : decode cX6_finds 87 = .ok (.invokevirtual 130, 3) := dk_182 0 130 (dk_at dksX6_finds_3 17 rfl rfl)
theorem dX6_finds_90 : decode cX6_finds 90 = .ok (.iinc 4 1, 3) := dk_132 4 1 (dk_at dksX6_finds_3 20 rfl rfl)
theorem dX6_finds_93 : decode cX6_finds 93 = .ok (.goto (-54), 3) := dk_167 255 202 (dk_at dksX6_finds_4 0 rfl rfl)
theorem dX6_finds_96 : decode cX6_finds 96 = .ok (.iinc 3 1, 3) := dk_132 3 1 (dk_at dksX6_finds_4 3 rfl rfl)
theorem dX6_finds_99 : decode cX6_finds 99 = .ok (.goto (-92), 3) := dk_167 255 164 (dk_at dksX6_finds_4 6 rfl rfl)
theorem dX6_finds_102 : decode cX6_finds 102 = .ok (.return_, 1) := dk_177 (dk_at dksX6_finds_4 9 rfl rfl)
abbrev cX6_goes : ByteArray := prog_20_method_5_code
def yX6_goes : MethodName := ⟨RX6, "goes", "(II)Z"⟩
def dkwX6_goes_10 : List UInt8 := [29, 21, 11, 21, 10, 104, 96, 46, 2, 159, 0, 5, 3, 172, 132, 11, 1, 167, 255, 228, 4, 172]
abbrev dktX6_goes_10 : List UInt8 := dkwX6_goes_10 ++ []
def dkwX6_goes_9 : List UInt8 := [8, 21, 5, 184, 0, 111, 104, 96, 54, 10, 4, 54, 11, 21, 11, 21, 9, 162, 0, 27, 42, 180, 0, 19]
abbrev dktX6_goes_9 : List UInt8 := dkwX6_goes_9 ++ dktX6_goes_10
def dkwX6_goes_8 : List UInt8 := [180, 0, 95, 4, 159, 0, 13, 21, 9, 25, 6, 180, 0, 108, 164, 0, 5, 3, 172, 21, 4, 184, 0, 111]
abbrev dktX6_goes_8 : List UInt8 := dkwX6_goes_8 ++ dktX6_goes_9
def dkwX6_goes_7 : List UInt8 := [54, 9, 21, 7, 153, 0, 12, 25, 6, 180, 0, 95, 5, 160, 0, 17, 21, 8, 153, 0, 22, 25, 6]
abbrev dktX6_goes_7 : List UInt8 := dkwX6_goes_7 ++ dktX6_goes_8
def dkwX6_goes_6 : List UInt8 := [160, 0, 7, 4, 167, 0, 4, 3, 54, 8, 21, 4, 184, 0, 98, 21, 5, 184, 0, 98, 184, 0, 104]
abbrev dktX6_goes_6 : List UInt8 := dkwX6_goes_6 ++ dktX6_goes_7
def dkwX6_goes_5 : List UInt8 := [21, 5, 154, 0, 7, 4, 167, 0, 4, 3, 54, 7, 21, 4, 184, 0, 98, 21, 5, 184, 0, 98]
abbrev dktX6_goes_5 : List UInt8 := dkwX6_goes_5 ++ dktX6_goes_6
def dkwX6_goes_4 : List UInt8 := [21, 4, 21, 5, 104, 184, 0, 98, 5, 160, 0, 7, 4, 167, 0, 4, 3, 172, 21, 4, 153, 0, 8]
abbrev dktX6_goes_4 : List UInt8 := dkwX6_goes_4 ++ dktX6_goes_5
def dkwX6_goes_3 : List UInt8 := [8, 108, 100, 54, 5, 42, 180, 0, 3, 27, 182, 0, 84, 58, 6, 25, 6, 180, 0, 95, 7, 160, 0, 21]
abbrev dktX6_goes_3 : List UInt8 := dkwX6_goes_3 ++ dktX6_goes_4
def dkwX6_goes_2 : List UInt8 := [182, 0, 44, 180, 0, 94, 160, 0, 5, 3, 172, 28, 8, 112, 29, 8, 112, 100, 54, 4, 28, 8, 108, 29]
abbrev dktX6_goes_2 : List UInt8 := dkwX6_goes_2 ++ dktX6_goes_3
def dkwX6_goes_1 : List UInt8 := [159, 0, 35, 42, 180, 0, 3, 42, 180, 0, 19, 28, 46, 182, 0, 44, 180, 0, 94, 42, 180, 0, 3, 27]
abbrev dktX6_goes_1 : List UInt8 := dkwX6_goes_1 ++ dktX6_goes_2
def dkwX6_goes_0 : List UInt8 := [42, 180, 0, 15, 27, 46, 62, 29, 2, 159, 0, 48, 29, 28, 159, 0, 43, 42, 180, 0, 19, 28, 46, 2]
abbrev dktX6_goes_0 : List UInt8 := dkwX6_goes_0 ++ dktX6_goes_1
theorem dksX6_goes_0 : cX6_goes.data.toList.drop 0 = dktX6_goes_0 := by decide +kernel
theorem dksX6_goes_1 : cX6_goes.data.toList.drop 24 = dktX6_goes_1 := dk_seg dksX6_goes_0 24 rfl rfl
theorem dksX6_goes_2 : cX6_goes.data.toList.drop 48 = dktX6_goes_2 := dk_seg dksX6_goes_1 24 rfl rfl
theorem dksX6_goes_3 : cX6_goes.data.toList.drop 72 = dktX6_goes_3 := dk_seg dksX6_goes_2 24 rfl rfl
theorem dksX6_goes_4 : cX6_goes.data.toList.drop 96 = dktX6_goes_4 := dk_seg dksX6_goes_3 24 rfl rfl
theorem dksX6_goes_5 : cX6_goes.data.toList.drop 119 = dktX6_goes_5 := dk_seg dksX6_goes_4 23 rfl rfl
theorem dksX6_goes_6 : cX6_goes.data.toList.drop 141 = dktX6_goes_6 := dk_seg dksX6_goes_5 22 rfl rfl
theorem dksX6_goes_7 : cX6_goes.data.toList.drop 164 = dktX6_goes_7 := dk_seg dksX6_goes_6 23 rfl rfl
theorem dksX6_goes_8 : cX6_goes.data.toList.drop 187 = dktX6_goes_8 := dk_seg dksX6_goes_7 23 rfl rfl
theorem dksX6_goes_9 : cX6_goes.data.toList.drop 211 = dktX6_goes_9 := dk_seg dksX6_goes_8 24 rfl rfl
theorem dksX6_goes_10 : cX6_goes.data.toList.drop 235 = dktX6_goes_10 := dk_seg dksX6_goes_9 24 rfl rfl
theorem dX6_goes_0 : decode cX6_goes 0 = .ok (.aload_n 0, 1) := dk_42 (dk_at dksX6_goes_0 0 rfl rfl)
theorem dX6_goes_1 : decode cX6_goes 1 = .ok (.getfield 15, 3) := dk_180 0 15 (dk_at dksX6_goes_0 1 rfl rfl)
theorem dX6_goes_4 : decode cX6_goes 4 = .ok (.iload_n 1, 1) := dk_27 (dk_at dksX6_goes_0 4 rfl rfl)
theorem dX6_goes_5 : decode cX6_goes 5 = .ok (.iaload, 1) := dk_46 (dk_at dksX6_goes_0 5 rfl rfl)
theorem dX6_goes_6 : decode cX6_goes 6 = .ok (.istore_n 3, 1) := dk_62 (dk_at dksX6_goes_0 6 rfl rfl)
theorem dX6_goes_7 : decode cX6_goes 7 = .ok (.iload_n 3, 1) := dk_29 (dk_at dksX6_goes_0 7 rfl rfl)
theorem dX6_goes_8 : decode cX6_goes 8 = .ok (.iconst (-1), 1) := dk_2 (dk_at dksX6_goes_0 8 rfl rfl)
theorem dX6_goes_9 : decode cX6_goes 9 = .ok (.if_icmp .eq 48, 3) := dk_159 0 48 (dk_at dksX6_goes_0 9 rfl rfl)
theorem dX6_goes_12 : decode cX6_goes 12 = .ok (.iload_n 3, 1) := dk_29 (dk_at dksX6_goes_0 12 rfl rfl)
theorem dX6_goes_13 : decode cX6_goes 13 = .ok (.iload_n 2, 1) := dk_28 (dk_at dksX6_goes_0 13 rfl rfl)
theorem dX6_goes_14 : decode cX6_goes 14 = .ok (.if_icmp .eq 43, 3) := dk_159 0 43 (dk_at dksX6_goes_0 14 rfl rfl)
theorem dX6_goes_17 : decode cX6_goes 17 = .ok (.aload_n 0, 1) := dk_42 (dk_at dksX6_goes_0 17 rfl rfl)
theorem dX6_goes_18 : decode cX6_goes 18 = .ok (.getfield 19, 3) := dk_180 0 19 (dk_at dksX6_goes_0 18 rfl rfl)
theorem dX6_goes_21 : decode cX6_goes 21 = .ok (.iload_n 2, 1) := dk_28 (dk_at dksX6_goes_0 21 rfl rfl)
theorem dX6_goes_22 : decode cX6_goes 22 = .ok (.iaload, 1) := dk_46 (dk_at dksX6_goes_0 22 rfl rfl)
theorem dX6_goes_23 : decode cX6_goes 23 = .ok (.iconst (-1), 1) := dk_2 (dk_at dksX6_goes_0 23 rfl rfl)
theorem dX6_goes_24 : decode cX6_goes 24 = .ok (.if_icmp .eq 35, 3) := dk_159 0 35 (dk_at dksX6_goes_1 0 rfl rfl)
theorem dX6_goes_27 : decode cX6_goes 27 = .ok (.aload_n 0, 1) := dk_42 (dk_at dksX6_goes_1 3 rfl rfl)
theorem dX6_goes_28 : decode cX6_goes 28 = .ok (.getfield 3, 3) := dk_180 0 3 (dk_at dksX6_goes_1 4 rfl rfl)
theorem dX6_goes_31 : decode cX6_goes 31 = .ok (.aload_n 0, 1) := dk_42 (dk_at dksX6_goes_1 7 rfl rfl)
theorem dX6_goes_32 : decode cX6_goes 32 = .ok (.getfield 19, 3) := dk_180 0 19 (dk_at dksX6_goes_1 8 rfl rfl)
theorem dX6_goes_35 : decode cX6_goes 35 = .ok (.iload_n 2, 1) := dk_28 (dk_at dksX6_goes_1 11 rfl rfl)
theorem dX6_goes_36 : decode cX6_goes 36 = .ok (.iaload, 1) := dk_46 (dk_at dksX6_goes_1 12 rfl rfl)
theorem dX6_goes_37 : decode cX6_goes 37 = .ok (.invokevirtual 44, 3) := dk_182 0 44 (dk_at dksX6_goes_1 13 rfl rfl)
theorem dX6_goes_40 : decode cX6_goes 40 = .ok (.getfield 94, 3) := dk_180 0 94 (dk_at dksX6_goes_1 16 rfl rfl)
theorem dX6_goes_43 : decode cX6_goes 43 = .ok (.aload_n 0, 1) := dk_42 (dk_at dksX6_goes_1 19 rfl rfl)
theorem dX6_goes_44 : decode cX6_goes 44 = .ok (.getfield 3, 3) := dk_180 0 3 (dk_at dksX6_goes_1 20 rfl rfl)
theorem dX6_goes_47 : decode cX6_goes 47 = .ok (.iload_n 1, 1) := dk_27 (dk_at dksX6_goes_1 23 rfl rfl)
theorem dX6_goes_48 : decode cX6_goes 48 = .ok (.invokevirtual 44, 3) := dk_182 0 44 (dk_at dksX6_goes_2 0 rfl rfl)
theorem dX6_goes_51 : decode cX6_goes 51 = .ok (.getfield 94, 3) := dk_180 0 94 (dk_at dksX6_goes_2 3 rfl rfl)
theorem dX6_goes_54 : decode cX6_goes 54 = .ok (.if_icmp .ne 5, 3) := dk_160 0 5 (dk_at dksX6_goes_2 6 rfl rfl)
theorem dX6_goes_57 : decode cX6_goes 57 = .ok (.iconst 0, 1) := dk_3 (dk_at dksX6_goes_2 9 rfl rfl)
theorem dX6_goes_58 : decode cX6_goes 58 = .ok (.ireturn, 1) := dk_172 (dk_at dksX6_goes_2 10 rfl rfl)
theorem dX6_goes_59 : decode cX6_goes 59 = .ok (.iload_n 2, 1) := dk_28 (dk_at dksX6_goes_2 11 rfl rfl)
theorem dX6_goes_60 : decode cX6_goes 60 = .ok (.iconst 5, 1) := dk_8 (dk_at dksX6_goes_2 12 rfl rfl)
theorem dX6_goes_61 : decode cX6_goes 61 = .ok (.irem, 1) := dk_112 (dk_at dksX6_goes_2 13 rfl rfl)
theorem dX6_goes_62 : decode cX6_goes 62 = .ok (.iload_n 3, 1) := dk_29 (dk_at dksX6_goes_2 14 rfl rfl)
theorem dX6_goes_63 : decode cX6_goes 63 = .ok (.iconst 5, 1) := dk_8 (dk_at dksX6_goes_2 15 rfl rfl)
theorem dX6_goes_64 : decode cX6_goes 64 = .ok (.irem, 1) := dk_112 (dk_at dksX6_goes_2 16 rfl rfl)
theorem dX6_goes_65 : decode cX6_goes 65 = .ok (.isub, 1) := dk_100 (dk_at dksX6_goes_2 17 rfl rfl)
theorem dX6_goes_66 : decode cX6_goes 66 = .ok (.istore 4, 2) := dk_54 4 (dk_at dksX6_goes_2 18 rfl rfl)
theorem dX6_goes_68 : decode cX6_goes 68 = .ok (.iload_n 2, 1) := dk_28 (dk_at dksX6_goes_2 20 rfl rfl)
theorem dX6_goes_69 : decode cX6_goes 69 = .ok (.iconst 5, 1) := dk_8 (dk_at dksX6_goes_2 21 rfl rfl)
theorem dX6_goes_70 : decode cX6_goes 70 = .ok (.idiv, 1) := dk_108 (dk_at dksX6_goes_2 22 rfl rfl)
theorem dX6_goes_71 : decode cX6_goes 71 = .ok (.iload_n 3, 1) := dk_29 (dk_at dksX6_goes_2 23 rfl rfl)
theorem dX6_goes_72 : decode cX6_goes 72 = .ok (.iconst 5, 1) := dk_8 (dk_at dksX6_goes_3 0 rfl rfl)
theorem dX6_goes_73 : decode cX6_goes 73 = .ok (.idiv, 1) := dk_108 (dk_at dksX6_goes_3 1 rfl rfl)
theorem dX6_goes_74 : decode cX6_goes 74 = .ok (.isub, 1) := dk_100 (dk_at dksX6_goes_3 2 rfl rfl)
theorem dX6_goes_75 : decode cX6_goes 75 = .ok (.istore 5, 2) := dk_54 5 (dk_at dksX6_goes_3 3 rfl rfl)
theorem dX6_goes_77 : decode cX6_goes 77 = .ok (.aload_n 0, 1) := dk_42 (dk_at dksX6_goes_3 5 rfl rfl)
theorem dX6_goes_78 : decode cX6_goes 78 = .ok (.getfield 3, 3) := dk_180 0 3 (dk_at dksX6_goes_3 6 rfl rfl)
theorem dX6_goes_81 : decode cX6_goes 81 = .ok (.iload_n 1, 1) := dk_27 (dk_at dksX6_goes_3 9 rfl rfl)
theorem dX6_goes_82 : decode cX6_goes 82 = .ok (.invokevirtual 84, 3) := dk_182 0 84 (dk_at dksX6_goes_3 10 rfl rfl)
theorem dX6_goes_85 : decode cX6_goes 85 = .ok (.astore 6, 2) := dk_58 6 (dk_at dksX6_goes_3 13 rfl rfl)
theorem dX6_goes_87 : decode cX6_goes 87 = .ok (.aload 6, 2) := dk_25 6 (dk_at dksX6_goes_3 15 rfl rfl)
theorem dX6_goes_89 : decode cX6_goes 89 = .ok (.getfield 95, 3) := dk_180 0 95 (dk_at dksX6_goes_3 17 rfl rfl)
theorem dX6_goes_92 : decode cX6_goes 92 = .ok (.iconst 4, 1) := dk_7 (dk_at dksX6_goes_3 20 rfl rfl)
theorem dX6_goes_93 : decode cX6_goes 93 = .ok (.if_icmp .ne 21, 3) := dk_160 0 21 (dk_at dksX6_goes_3 21 rfl rfl)
theorem dX6_goes_96 : decode cX6_goes 96 = .ok (.iload 4, 2) := dk_21 4 (dk_at dksX6_goes_4 0 rfl rfl)
theorem dX6_goes_98 : decode cX6_goes 98 = .ok (.iload 5, 2) := dk_21 5 (dk_at dksX6_goes_4 2 rfl rfl)
theorem dX6_goes_100 : decode cX6_goes 100 = .ok (.imul, 1) := dk_104 (dk_at dksX6_goes_4 4 rfl rfl)
theorem dX6_goes_101 : decode cX6_goes 101 = .ok (.invokestatic 98, 3) := dk_184 0 98 (dk_at dksX6_goes_4 5 rfl rfl)
theorem dX6_goes_104 : decode cX6_goes 104 = .ok (.iconst 2, 1) := dk_5 (dk_at dksX6_goes_4 8 rfl rfl)
theorem dX6_goes_105 : decode cX6_goes 105 = .ok (.if_icmp .ne 7, 3) := dk_160 0 7 (dk_at dksX6_goes_4 9 rfl rfl)
theorem dX6_goes_108 : decode cX6_goes 108 = .ok (.iconst 1, 1) := dk_4 (dk_at dksX6_goes_4 12 rfl rfl)
theorem dX6_goes_109 : decode cX6_goes 109 = .ok (.goto 4, 3) := dk_167 0 4 (dk_at dksX6_goes_4 13 rfl rfl)
theorem dX6_goes_112 : decode cX6_goes 112 = .ok (.iconst 0, 1) := dk_3 (dk_at dksX6_goes_4 16 rfl rfl)
theorem dX6_goes_113 : decode cX6_goes 113 = .ok (.ireturn, 1) := dk_172 (dk_at dksX6_goes_4 17 rfl rfl)
theorem dX6_goes_114 : decode cX6_goes 114 = .ok (.iload 4, 2) := dk_21 4 (dk_at dksX6_goes_4 18 rfl rfl)
theorem dX6_goes_116 : decode cX6_goes 116 = .ok (.ifCond .eq 8, 3) := dk_153 0 8 (dk_at dksX6_goes_4 20 rfl rfl)
theorem dX6_goes_119 : decode cX6_goes 119 = .ok (.iload 5, 2) := dk_21 5 (dk_at dksX6_goes_5 0 rfl rfl)
theorem dX6_goes_121 : decode cX6_goes 121 = .ok (.ifCond .ne 7, 3) := dk_154 0 7 (dk_at dksX6_goes_5 2 rfl rfl)
theorem dX6_goes_124 : decode cX6_goes 124 = .ok (.iconst 1, 1) := dk_4 (dk_at dksX6_goes_5 5 rfl rfl)
theorem dX6_goes_125 : decode cX6_goes 125 = .ok (.goto 4, 3) := dk_167 0 4 (dk_at dksX6_goes_5 6 rfl rfl)
theorem dX6_goes_128 : decode cX6_goes 128 = .ok (.iconst 0, 1) := dk_3 (dk_at dksX6_goes_5 9 rfl rfl)
theorem dX6_goes_129 : decode cX6_goes 129 = .ok (.istore 7, 2) := dk_54 7 (dk_at dksX6_goes_5 10 rfl rfl)
theorem dX6_goes_131 : decode cX6_goes 131 = .ok (.iload 4, 2) := dk_21 4 (dk_at dksX6_goes_5 12 rfl rfl)
theorem dX6_goes_133 : decode cX6_goes 133 = .ok (.invokestatic 98, 3) := dk_184 0 98 (dk_at dksX6_goes_5 14 rfl rfl)
theorem dX6_goes_136 : decode cX6_goes 136 = .ok (.iload 5, 2) := dk_21 5 (dk_at dksX6_goes_5 17 rfl rfl)
theorem dX6_goes_138 : decode cX6_goes 138 = .ok (.invokestatic 98, 3) := dk_184 0 98 (dk_at dksX6_goes_5 19 rfl rfl)
theorem dX6_goes_141 : decode cX6_goes 141 = .ok (.if_icmp .ne 7, 3) := dk_160 0 7 (dk_at dksX6_goes_6 0 rfl rfl)
theorem dX6_goes_144 : decode cX6_goes 144 = .ok (.iconst 1, 1) := dk_4 (dk_at dksX6_goes_6 3 rfl rfl)
theorem dX6_goes_145 : decode cX6_goes 145 = .ok (.goto 4, 3) := dk_167 0 4 (dk_at dksX6_goes_6 4 rfl rfl)
theorem dX6_goes_148 : decode cX6_goes 148 = .ok (.iconst 0, 1) := dk_3 (dk_at dksX6_goes_6 7 rfl rfl)
theorem dX6_goes_149 : decode cX6_goes 149 = .ok (.istore 8, 2) := dk_54 8 (dk_at dksX6_goes_6 8 rfl rfl)
theorem dX6_goes_151 : decode cX6_goes 151 = .ok (.iload 4, 2) := dk_21 4 (dk_at dksX6_goes_6 10 rfl rfl)
theorem dX6_goes_153 : decode cX6_goes 153 = .ok (.invokestatic 98, 3) := dk_184 0 98 (dk_at dksX6_goes_6 12 rfl rfl)
theorem dX6_goes_156 : decode cX6_goes 156 = .ok (.iload 5, 2) := dk_21 5 (dk_at dksX6_goes_6 15 rfl rfl)
theorem dX6_goes_158 : decode cX6_goes 158 = .ok (.invokestatic 98, 3) := dk_184 0 98 (dk_at dksX6_goes_6 17 rfl rfl)
theorem dX6_goes_161 : decode cX6_goes 161 = .ok (.invokestatic 104, 3) := dk_184 0 104 (dk_at dksX6_goes_6 20 rfl rfl)
theorem dX6_goes_164 : decode cX6_goes 164 = .ok (.istore 9, 2) := dk_54 9 (dk_at dksX6_goes_7 0 rfl rfl)
theorem dX6_goes_166 : decode cX6_goes 166 = .ok (.iload 7, 2) := dk_21 7 (dk_at dksX6_goes_7 2 rfl rfl)
theorem dX6_goes_168 : decode cX6_goes 168 = .ok (.ifCond .eq 12, 3) := dk_153 0 12 (dk_at dksX6_goes_7 4 rfl rfl)
theorem dX6_goes_171 : decode cX6_goes 171 = .ok (.aload 6, 2) := dk_25 6 (dk_at dksX6_goes_7 7 rfl rfl)
theorem dX6_goes_173 : decode cX6_goes 173 = .ok (.getfield 95, 3) := dk_180 0 95 (dk_at dksX6_goes_7 9 rfl rfl)
theorem dX6_goes_176 : decode cX6_goes 176 = .ok (.iconst 2, 1) := dk_5 (dk_at dksX6_goes_7 12 rfl rfl)
theorem dX6_goes_177 : decode cX6_goes 177 = .ok (.if_icmp .ne 17, 3) := dk_160 0 17 (dk_at dksX6_goes_7 13 rfl rfl)
theorem dX6_goes_180 : decode cX6_goes 180 = .ok (.iload 8, 2) := dk_21 8 (dk_at dksX6_goes_7 16 rfl rfl)
theorem dX6_goes_182 : decode cX6_goes 182 = .ok (.ifCond .eq 22, 3) := dk_153 0 22 (dk_at dksX6_goes_7 18 rfl rfl)
theorem dX6_goes_185 : decode cX6_goes 185 = .ok (.aload 6, 2) := dk_25 6 (dk_at dksX6_goes_7 21 rfl rfl)
theorem dX6_goes_187 : decode cX6_goes 187 = .ok (.getfield 95, 3) := dk_180 0 95 (dk_at dksX6_goes_8 0 rfl rfl)
theorem dX6_goes_190 : decode cX6_goes 190 = .ok (.iconst 1, 1) := dk_4 (dk_at dksX6_goes_8 3 rfl rfl)
theorem dX6_goes_191 : decode cX6_goes 191 = .ok (.if_icmp .eq 13, 3) := dk_159 0 13 (dk_at dksX6_goes_8 4 rfl rfl)
theorem dX6_goes_194 : decode cX6_goes 194 = .ok (.iload 9, 2) := dk_21 9 (dk_at dksX6_goes_8 7 rfl rfl)
theorem dX6_goes_196 : decode cX6_goes 196 = .ok (.aload 6, 2) := dk_25 6 (dk_at dksX6_goes_8 9 rfl rfl)
theorem dX6_goes_198 : decode cX6_goes 198 = .ok (.getfield 108, 3) := dk_180 0 108 (dk_at dksX6_goes_8 11 rfl rfl)
theorem dX6_goes_201 : decode cX6_goes 201 = .ok (.if_icmp .le 5, 3) := dk_164 0 5 (dk_at dksX6_goes_8 14 rfl rfl)
theorem dX6_goes_204 : decode cX6_goes 204 = .ok (.iconst 0, 1) := dk_3 (dk_at dksX6_goes_8 17 rfl rfl)
theorem dX6_goes_205 : decode cX6_goes 205 = .ok (.ireturn, 1) := dk_172 (dk_at dksX6_goes_8 18 rfl rfl)
theorem dX6_goes_206 : decode cX6_goes 206 = .ok (.iload 4, 2) := dk_21 4 (dk_at dksX6_goes_8 19 rfl rfl)
theorem dX6_goes_208 : decode cX6_goes 208 = .ok (.invokestatic 111, 3) := dk_184 0 111 (dk_at dksX6_goes_8 21 rfl rfl)
theorem dX6_goes_211 : decode cX6_goes 211 = .ok (.iconst 5, 1) := dk_8 (dk_at dksX6_goes_9 0 rfl rfl)
theorem dX6_goes_212 : decode cX6_goes 212 = .ok (.iload 5, 2) := dk_21 5 (dk_at dksX6_goes_9 1 rfl rfl)
theorem dX6_goes_214 : decode cX6_goes 214 = .ok (.invokestatic 111, 3) := dk_184 0 111 (dk_at dksX6_goes_9 3 rfl rfl)
theorem dX6_goes_217 : decode cX6_goes 217 = .ok (.imul, 1) := dk_104 (dk_at dksX6_goes_9 6 rfl rfl)
theorem dX6_goes_218 : decode cX6_goes 218 = .ok (.iadd, 1) := dk_96 (dk_at dksX6_goes_9 7 rfl rfl)
theorem dX6_goes_219 : decode cX6_goes 219 = .ok (.istore 10, 2) := dk_54 10 (dk_at dksX6_goes_9 8 rfl rfl)
theorem dX6_goes_221 : decode cX6_goes 221 = .ok (.iconst 1, 1) := dk_4 (dk_at dksX6_goes_9 10 rfl rfl)
theorem dX6_goes_222 : decode cX6_goes 222 = .ok (.istore 11, 2) := dk_54 11 (dk_at dksX6_goes_9 11 rfl rfl)
theorem dX6_goes_224 : decode cX6_goes 224 = .ok (.iload 11, 2) := dk_21 11 (dk_at dksX6_goes_9 13 rfl rfl)
theorem dX6_goes_226 : decode cX6_goes 226 = .ok (.iload 9, 2) := dk_21 9 (dk_at dksX6_goes_9 15 rfl rfl)
theorem dX6_goes_228 : decode cX6_goes 228 = .ok (.if_icmp .ge 27, 3) := dk_162 0 27 (dk_at dksX6_goes_9 17 rfl rfl)
theorem dX6_goes_231 : decode cX6_goes 231 = .ok (.aload_n 0, 1) := dk_42 (dk_at dksX6_goes_9 20 rfl rfl)
theorem dX6_goes_232 : decode cX6_goes 232 = .ok (.getfield 19, 3) := dk_180 0 19 (dk_at dksX6_goes_9 21 rfl rfl)
theorem dX6_goes_235 : decode cX6_goes 235 = .ok (.iload_n 3, 1) := dk_29 (dk_at dksX6_goes_10 0 rfl rfl)
theorem dX6_goes_236 : decode cX6_goes 236 = .ok (.iload 11, 2) := dk_21 11 (dk_at dksX6_goes_10 1 rfl rfl)
theorem dX6_goes_238 : decode cX6_goes 238 = .ok (.iload 10, 2) := dk_21 10 (dk_at dksX6_goes_10 3 rfl rfl)
theorem dX6_goes_240 : decode cX6_goes 240 = .ok (.imul, 1) := dk_104 (dk_at dksX6_goes_10 5 rfl rfl)
theorem dX6_goes_241 : decode cX6_goes 241 = .ok (.iadd, 1) := dk_96 (dk_at dksX6_goes_10 6 rfl rfl)
theorem dX6_goes_242 : decode cX6_goes 242 = .ok (.iaload, 1) := dk_46 (dk_at dksX6_goes_10 7 rfl rfl)
theorem dX6_goes_243 : decode cX6_goes 243 = .ok (.iconst (-1), 1) := dk_2 (dk_at dksX6_goes_10 8 rfl rfl)
theorem dX6_goes_244 : decode cX6_goes 244 = .ok (.if_icmp .eq 5, 3) := dk_159 0 5 (dk_at dksX6_goes_10 9 rfl rfl)
theorem dX6_goes_247 : decode cX6_goes 247 = .ok (.iconst 0, 1) := dk_3 (dk_at dksX6_goes_10 12 rfl rfl)
theorem dX6_goes_248 : decode cX6_goes 248 = .ok (.ireturn, 1) := dk_172 (dk_at dksX6_goes_10 13 rfl rfl)
theorem dX6_goes_249 : decode cX6_goes 249 = .ok (.iinc 11 1, 3) := dk_132 11 1 (dk_at dksX6_goes_10 14 rfl rfl)
theorem dX6_goes_252 : decode cX6_goes 252 = .ok (.goto (-28), 3) := dk_167 255 228 (dk_at dksX6_goes_10 17 rfl rfl)
theorem dX6_goes_255 : decode cX6_goes 255 = .ok (.iconst 1, 1) := dk_4 (dk_at dksX6_goes_10 20 rfl rfl)
theorem dX6_goes_256 : decode cX6_goes 256 = .ok (.ireturn, 1) := dk_172 (dk_at dksX6_goes_10 21 rfl rfl)
abbrev cX6_left : ByteArray := prog_20_method_22_code
def yX6_left : MethodName := ⟨RX6, "left", "(I)I"⟩
def dkwX6_left_2 : List UInt8 := [61, 132, 3, 1, 167, 255, 209, 28, 172]
abbrev dktX6_left_2 : List UInt8 := dkwX6_left_2 ++ []
def dkwX6_left_1 : List UInt8 := [159, 0, 22, 42, 180, 0, 3, 29, 182, 0, 44, 180, 0, 94, 27, 160, 0, 7, 4, 167, 0, 4, 3, 96]
abbrev dktX6_left_1 : List UInt8 := dkwX6_left_1 ++ dktX6_left_2
def dkwX6_left_0 : List UInt8 := [3, 61, 3, 62, 29, 42, 180, 0, 3, 182, 0, 40, 162, 0, 42, 28, 42, 180, 0, 15, 29, 46, 2]
abbrev dktX6_left_0 : List UInt8 := dkwX6_left_0 ++ dktX6_left_1
theorem dksX6_left_0 : cX6_left.data.toList.drop 0 = dktX6_left_0 := by decide +kernel
theorem dksX6_left_1 : cX6_left.data.toList.drop 23 = dktX6_left_1 := dk_seg dksX6_left_0 23 rfl rfl
theorem dksX6_left_2 : cX6_left.data.toList.drop 47 = dktX6_left_2 := dk_seg dksX6_left_1 24 rfl rfl
theorem dX6_left_0 : decode cX6_left 0 = .ok (.iconst 0, 1) := dk_3 (dk_at dksX6_left_0 0 rfl rfl)
theorem dX6_left_1 : decode cX6_left 1 = .ok (.istore_n 2, 1) := dk_61 (dk_at dksX6_left_0 1 rfl rfl)
theorem dX6_left_2 : decode cX6_left 2 = .ok (.iconst 0, 1) := dk_3 (dk_at dksX6_left_0 2 rfl rfl)
theorem dX6_left_3 : decode cX6_left 3 = .ok (.istore_n 3, 1) := dk_62 (dk_at dksX6_left_0 3 rfl rfl)
theorem dX6_left_4 : decode cX6_left 4 = .ok (.iload_n 3, 1) := dk_29 (dk_at dksX6_left_0 4 rfl rfl)
theorem dX6_left_5 : decode cX6_left 5 = .ok (.aload_n 0, 1) := dk_42 (dk_at dksX6_left_0 5 rfl rfl)
theorem dX6_left_6 : decode cX6_left 6 = .ok (.getfield 3, 3) := dk_180 0 3 (dk_at dksX6_left_0 6 rfl rfl)
theorem dX6_left_9 : decode cX6_left 9 = .ok (.invokevirtual 40, 3) := dk_182 0 40 (dk_at dksX6_left_0 9 rfl rfl)
theorem dX6_left_12 : decode cX6_left 12 = .ok (.if_icmp .ge 42, 3) := dk_162 0 42 (dk_at dksX6_left_0 12 rfl rfl)
theorem dX6_left_15 : decode cX6_left 15 = .ok (.iload_n 2, 1) := dk_28 (dk_at dksX6_left_0 15 rfl rfl)
theorem dX6_left_16 : decode cX6_left 16 = .ok (.aload_n 0, 1) := dk_42 (dk_at dksX6_left_0 16 rfl rfl)
theorem dX6_left_17 : decode cX6_left 17 = .ok (.getfield 15, 3) := dk_180 0 15 (dk_at dksX6_left_0 17 rfl rfl)
theorem dX6_left_20 : decode cX6_left 20 = .ok (.iload_n 3, 1) := dk_29 (dk_at dksX6_left_0 20 rfl rfl)
theorem dX6_left_21 : decode cX6_left 21 = .ok (.iaload, 1) := dk_46 (dk_at dksX6_left_0 21 rfl rfl)
theorem dX6_left_22 : decode cX6_left 22 = .ok (.iconst (-1), 1) := dk_2 (dk_at dksX6_left_0 22 rfl rfl)
theorem dX6_left_23 : decode cX6_left 23 = .ok (.if_icmp .eq 22, 3) := dk_159 0 22 (dk_at dksX6_left_1 0 rfl rfl)
theorem dX6_left_26 : decode cX6_left 26 = .ok (.aload_n 0, 1) := dk_42 (dk_at dksX6_left_1 3 rfl rfl)
theorem dX6_left_27 : decode cX6_left 27 = .ok (.getfield 3, 3) := dk_180 0 3 (dk_at dksX6_left_1 4 rfl rfl)
theorem dX6_left_30 : decode cX6_left 30 = .ok (.iload_n 3, 1) := dk_29 (dk_at dksX6_left_1 7 rfl rfl)
theorem dX6_left_31 : decode cX6_left 31 = .ok (.invokevirtual 44, 3) := dk_182 0 44 (dk_at dksX6_left_1 8 rfl rfl)
theorem dX6_left_34 : decode cX6_left 34 = .ok (.getfield 94, 3) := dk_180 0 94 (dk_at dksX6_left_1 11 rfl rfl)
theorem dX6_left_37 : decode cX6_left 37 = .ok (.iload_n 1, 1) := dk_27 (dk_at dksX6_left_1 14 rfl rfl)
theorem dX6_left_38 : decode cX6_left 38 = .ok (.if_icmp .ne 7, 3) := dk_160 0 7 (dk_at dksX6_left_1 15 rfl rfl)
theorem dX6_left_41 : decode cX6_left 41 = .ok (.iconst 1, 1) := dk_4 (dk_at dksX6_left_1 18 rfl rfl)
theorem dX6_left_42 : decode cX6_left 42 = .ok (.goto 4, 3) := dk_167 0 4 (dk_at dksX6_left_1 19 rfl rfl)
theorem dX6_left_45 : decode cX6_left 45 = .ok (.iconst 0, 1) := dk_3 (dk_at dksX6_left_1 22 rfl rfl)
theorem dX6_left_46 : decode cX6_left 46 = .ok (.iadd, 1) := dk_96 (dk_at dksX6_left_1 23 rfl rfl)
theorem dX6_left_47 : decode cX6_left 47 = .ok (.istore_n 2, 1) := dk_61 (dk_at dksX6_left_2 0 rfl rfl)
theorem dX6_left_48 : decode cX6_left 48 = .ok (.iinc 3 1, 3) := dk_132 3 1 (dk_at dksX6_left_2 1 rfl rfl)
theorem dX6_left_51 : decode cX6_left 51 = .ok (.goto (-47), 3) := dk_167 255 209 (dk_at dksX6_left_2 4 rfl rfl)
theorem dX6_left_54 : decode cX6_left 54 = .ok (.iload_n 2, 1) := dk_28 (dk_at dksX6_left_2 7 rfl rfl)
theorem dX6_left_55 : decode cX6_left 55 = .ok (.ireturn, 1) := dk_172 (dk_at dksX6_left_2 8 rfl rfl)
abbrev cX6_allBears : ByteArray := prog_20_method_21_code
def yX6_allBears : MethodName := ⟨RX6, "allBears", "()I"⟩
def dkwX6_allBears_1 : List UInt8 := [132, 2, 1, 167, 255, 233, 27, 172]
abbrev dktX6_allBears_1 : List UInt8 := dkwX6_allBears_1 ++ []
def dkwX6_allBears_0 : List UInt8 := [3, 60, 3, 61, 28, 42, 180, 0, 3, 182, 0, 56, 162, 0, 18, 27, 42, 180, 0, 22, 28, 46, 96, 60]
abbrev dktX6_allBears_0 : List UInt8 := dkwX6_allBears_0 ++ dktX6_allBears_1
theorem dksX6_allBears_0 : cX6_allBears.data.toList.drop 0 = dktX6_allBears_0 := by decide +kernel
theorem dksX6_allBears_1 : cX6_allBears.data.toList.drop 24 = dktX6_allBears_1 := dk_seg dksX6_allBears_0 24 rfl rfl
theorem dX6_allBears_0 : decode cX6_allBears 0 = .ok (.iconst 0, 1) := dk_3 (dk_at dksX6_allBears_0 0 rfl rfl)
theorem dX6_allBears_1 : decode cX6_allBears 1 = .ok (.istore_n 1, 1) := dk_60 (dk_at dksX6_allBears_0 1 rfl rfl)
theorem dX6_allBears_2 : decode cX6_allBears 2 = .ok (.iconst 0, 1) := dk_3 (dk_at dksX6_allBears_0 2 rfl rfl)
theorem dX6_allBears_3 : decode cX6_allBears 3 = .ok (.istore_n 2, 1) := dk_61 (dk_at dksX6_allBears_0 3 rfl rfl)
theorem dX6_allBears_4 : decode cX6_allBears 4 = .ok (.iload_n 2, 1) := dk_28 (dk_at dksX6_allBears_0 4 rfl rfl)
theorem dX6_allBears_5 : decode cX6_allBears 5 = .ok (.aload_n 0, 1) := dk_42 (dk_at dksX6_allBears_0 5 rfl rfl)
theorem dX6_allBears_6 : decode cX6_allBears 6 = .ok (.getfield 3, 3) := dk_180 0 3 (dk_at dksX6_allBears_0 6 rfl rfl)
theorem dX6_allBears_9 : decode cX6_allBears 9 = .ok (.invokevirtual 56, 3) := dk_182 0 56 (dk_at dksX6_allBears_0 9 rfl rfl)
theorem dX6_allBears_12 : decode cX6_allBears 12 = .ok (.if_icmp .ge 18, 3) := dk_162 0 18 (dk_at dksX6_allBears_0 12 rfl rfl)
theorem dX6_allBears_15 : decode cX6_allBears 15 = .ok (.iload_n 1, 1) := dk_27 (dk_at dksX6_allBears_0 15 rfl rfl)
theorem dX6_allBears_16 : decode cX6_allBears 16 = .ok (.aload_n 0, 1) := dk_42 (dk_at dksX6_allBears_0 16 rfl rfl)
theorem dX6_allBears_17 : decode cX6_allBears 17 = .ok (.getfield 22, 3) := dk_180 0 22 (dk_at dksX6_allBears_0 17 rfl rfl)
theorem dX6_allBears_20 : decode cX6_allBears 20 = .ok (.iload_n 2, 1) := dk_28 (dk_at dksX6_allBears_0 20 rfl rfl)
theorem dX6_allBears_21 : decode cX6_allBears 21 = .ok (.iaload, 1) := dk_46 (dk_at dksX6_allBears_0 21 rfl rfl)
theorem dX6_allBears_22 : decode cX6_allBears 22 = .ok (.iadd, 1) := dk_96 (dk_at dksX6_allBears_0 22 rfl rfl)
theorem dX6_allBears_23 : decode cX6_allBears 23 = .ok (.istore_n 1, 1) := dk_60 (dk_at dksX6_allBears_0 23 rfl rfl)
theorem dX6_allBears_24 : decode cX6_allBears 24 = .ok (.iinc 2 1, 3) := dk_132 2 1 (dk_at dksX6_allBears_1 0 rfl rfl)
theorem dX6_allBears_27 : decode cX6_allBears 27 = .ok (.goto (-23), 3) := dk_167 255 233 (dk_at dksX6_allBears_1 3 rfl rfl)
theorem dX6_allBears_30 : decode cX6_allBears 30 = .ok (.iload_n 1, 1) := dk_27 (dk_at dksX6_allBears_1 6 rfl rfl)
theorem dX6_allBears_31 : decode cX6_allBears 31 = .ok (.ireturn, 1) := dk_172 (dk_at dksX6_allBears_1 7 rfl rfl)
abbrev cX6_many : ByteArray := prog_20_method_7_code
def yX6_many : MethodName := ⟨RX6, "many", "(I)I"⟩
def dkwX6_many_2 : List UInt8 := [167, 0, 4, 3, 96, 61, 132, 3, 1, 167, 255, 204, 28, 172]
abbrev dktX6_many_2 : List UInt8 := dkwX6_many_2 ++ []
def dkwX6_many_1 : List UInt8 := [42, 180, 0, 3, 180, 0, 59, 180, 0, 123, 162, 0, 16, 42, 27, 29, 182, 0, 126, 153, 0, 7, 4]
abbrev dktX6_many_1 : List UInt8 := dkwX6_many_1 ++ dktX6_many_2
def dkwX6_many_0 : List UInt8 := [3, 61, 3, 62, 29, 8, 42, 180, 0, 3, 180, 0, 59, 180, 0, 121, 104, 162, 0, 42, 28, 29, 8, 112]
abbrev dktX6_many_0 : List UInt8 := dkwX6_many_0 ++ dktX6_many_1
theorem dksX6_many_0 : cX6_many.data.toList.drop 0 = dktX6_many_0 := by decide +kernel
theorem dksX6_many_1 : cX6_many.data.toList.drop 24 = dktX6_many_1 := dk_seg dksX6_many_0 24 rfl rfl
theorem dksX6_many_2 : cX6_many.data.toList.drop 47 = dktX6_many_2 := dk_seg dksX6_many_1 23 rfl rfl
theorem dX6_many_0 : decode cX6_many 0 = .ok (.iconst 0, 1) := dk_3 (dk_at dksX6_many_0 0 rfl rfl)
theorem dX6_many_1 : decode cX6_many 1 = .ok (.istore_n 2, 1) := dk_61 (dk_at dksX6_many_0 1 rfl rfl)
theorem dX6_many_2 : decode cX6_many 2 = .ok (.iconst 0, 1) := dk_3 (dk_at dksX6_many_0 2 rfl rfl)
theorem dX6_many_3 : decode cX6_many 3 = .ok (.istore_n 3, 1) := dk_62 (dk_at dksX6_many_0 3 rfl rfl)
theorem dX6_many_4 : decode cX6_many 4 = .ok (.iload_n 3, 1) := dk_29 (dk_at dksX6_many_0 4 rfl rfl)
theorem dX6_many_5 : decode cX6_many 5 = .ok (.iconst 5, 1) := dk_8 (dk_at dksX6_many_0 5 rfl rfl)
theorem dX6_many_6 : decode cX6_many 6 = .ok (.aload_n 0, 1) := dk_42 (dk_at dksX6_many_0 6 rfl rfl)
theorem dX6_many_7 : decode cX6_many 7 = .ok (.getfield 3, 3) := dk_180 0 3 (dk_at dksX6_many_0 7 rfl rfl)
theorem dX6_many_10 : decode cX6_many 10 = .ok (.getfield 59, 3) := dk_180 0 59 (dk_at dksX6_many_0 10 rfl rfl)
theorem dX6_many_13 : decode cX6_many 13 = .ok (.getfield 121, 3) := dk_180 0 121 (dk_at dksX6_many_0 13 rfl rfl)
theorem dX6_many_16 : decode cX6_many 16 = .ok (.imul, 1) := dk_104 (dk_at dksX6_many_0 16 rfl rfl)
theorem dX6_many_17 : decode cX6_many 17 = .ok (.if_icmp .ge 42, 3) := dk_162 0 42 (dk_at dksX6_many_0 17 rfl rfl)
theorem dX6_many_20 : decode cX6_many 20 = .ok (.iload_n 2, 1) := dk_28 (dk_at dksX6_many_0 20 rfl rfl)
theorem dX6_many_21 : decode cX6_many 21 = .ok (.iload_n 3, 1) := dk_29 (dk_at dksX6_many_0 21 rfl rfl)
theorem dX6_many_22 : decode cX6_many 22 = .ok (.iconst 5, 1) := dk_8 (dk_at dksX6_many_0 22 rfl rfl)
theorem dX6_many_23 : decode cX6_many 23 = .ok (.irem, 1) := dk_112 (dk_at dksX6_many_0 23 rfl rfl)
theorem dX6_many_24 : decode cX6_many 24 = .ok (.aload_n 0, 1) := dk_42 (dk_at dksX6_many_1 0 rfl rfl)
theorem dX6_many_25 : decode cX6_many 25 = .ok (.getfield 3, 3) := dk_180 0 3 (dk_at dksX6_many_1 1 rfl rfl)
theorem dX6_many_28 : decode cX6_many 28 = .ok (.getfield 59, 3) := dk_180 0 59 (dk_at dksX6_many_1 4 rfl rfl)
theorem dX6_many_31 : decode cX6_many 31 = .ok (.getfield 123, 3) := dk_180 0 123 (dk_at dksX6_many_1 7 rfl rfl)
theorem dX6_many_34 : decode cX6_many 34 = .ok (.if_icmp .ge 16, 3) := dk_162 0 16 (dk_at dksX6_many_1 10 rfl rfl)
theorem dX6_many_37 : decode cX6_many 37 = .ok (.aload_n 0, 1) := dk_42 (dk_at dksX6_many_1 13 rfl rfl)
theorem dX6_many_38 : decode cX6_many 38 = .ok (.iload_n 1, 1) := dk_27 (dk_at dksX6_many_1 14 rfl rfl)
theorem dX6_many_39 : decode cX6_many 39 = .ok (.iload_n 3, 1) := dk_29 (dk_at dksX6_many_1 15 rfl rfl)
theorem dX6_many_40 : decode cX6_many 40 = .ok (.invokevirtual 126, 3) := dk_182 0 126 (dk_at dksX6_many_1 16 rfl rfl)
theorem dX6_many_43 : decode cX6_many 43 = .ok (.ifCond .eq 7, 3) := dk_153 0 7 (dk_at dksX6_many_1 19 rfl rfl)
theorem dX6_many_46 : decode cX6_many 46 = .ok (.iconst 1, 1) := dk_4 (dk_at dksX6_many_1 22 rfl rfl)
theorem dX6_many_47 : decode cX6_many 47 = .ok (.goto 4, 3) := dk_167 0 4 (dk_at dksX6_many_2 0 rfl rfl)
theorem dX6_many_50 : decode cX6_many 50 = .ok (.iconst 0, 1) := dk_3 (dk_at dksX6_many_2 3 rfl rfl)
theorem dX6_many_51 : decode cX6_many 51 = .ok (.iadd, 1) := dk_96 (dk_at dksX6_many_2 4 rfl rfl)
theorem dX6_many_52 : decode cX6_many 52 = .ok (.istore_n 2, 1) := dk_61 (dk_at dksX6_many_2 5 rfl rfl)
theorem dX6_many_53 : decode cX6_many 53 = .ok (.iinc 3 1, 3) := dk_132 3 1 (dk_at dksX6_many_2 6 rfl rfl)
theorem dX6_many_56 : decode cX6_many 56 = .ok (.goto (-52), 3) := dk_167 255 204 (dk_at dksX6_many_2 9 rfl rfl)
theorem dX6_many_59 : decode cX6_many 59 = .ok (.iload_n 2, 1) := dk_28 (dk_at dksX6_many_2 12 rfl rfl)
theorem dX6_many_60 : decode cX6_many 60 = .ok (.ireturn, 1) := dk_172 (dk_at dksX6_many_2 13 rfl rfl)
abbrev cX6_copy : ByteArray := prog_20_method_4_code
def yX6_copy : MethodName := ⟨RX6, "copy", "(LGardenChess$State;)LGardenChess$State;"⟩
def dkwX6_copy_6 : List UInt8 := [46, 79, 132, 3, 1, 167, 255, 232, 132, 2, 1, 167, 255, 216, 42, 176]
abbrev dktX6_copy_6 : List UInt8 := dkwX6_copy_6 ++ []
def dkwX6_copy_5 : List UInt8 := [162, 0, 38, 3, 62, 29, 8, 162, 0, 25, 42, 180, 0, 27, 28, 50, 29, 43, 180, 0, 27, 28, 50, 29]
abbrev dktX6_copy_5 : List UInt8 := dkwX6_copy_5 ++ dktX6_copy_6
def dkwX6_copy_4 : List UInt8 := [180, 0, 22, 28, 43, 180, 0, 22, 28, 46, 79, 132, 2, 1, 167, 255, 235, 3, 61, 28, 42, 180, 0, 37]
abbrev dktX6_copy_4 : List UInt8 := dkwX6_copy_4 ++ dktX6_copy_5
def dkwX6_copy_3 : List UInt8 := [28, 43, 180, 0, 19, 28, 46, 79, 132, 2, 1, 167, 255, 235, 3, 61, 28, 16, 6, 162, 0, 21, 42]
abbrev dktX6_copy_3 : List UInt8 := dkwX6_copy_3 ++ dktX6_copy_4
def dkwX6_copy_2 : List UInt8 := [180, 0, 15, 28, 46, 79, 132, 2, 1, 167, 255, 235, 3, 61, 28, 16, 25, 162, 0, 21, 42, 180, 0, 19]
abbrev dktX6_copy_2 : List UInt8 := dkwX6_copy_2 ++ dktX6_copy_3
def dkwX6_copy_1 : List UInt8 := [42, 43, 180, 0, 81, 181, 0, 81, 3, 61, 28, 16, 8, 162, 0, 21, 42, 180, 0, 15, 28, 43]
abbrev dktX6_copy_1 : List UInt8 := dkwX6_copy_1 ++ dktX6_copy_2
def dkwX6_copy_0 : List UInt8 := [42, 43, 180, 0, 30, 181, 0, 30, 42, 43, 180, 0, 34, 181, 0, 34, 42, 43, 180, 0, 37, 181, 0, 37]
abbrev dktX6_copy_0 : List UInt8 := dkwX6_copy_0 ++ dktX6_copy_1
theorem dksX6_copy_0 : cX6_copy.data.toList.drop 0 = dktX6_copy_0 := by decide +kernel
theorem dksX6_copy_1 : cX6_copy.data.toList.drop 24 = dktX6_copy_1 := dk_seg dksX6_copy_0 24 rfl rfl
theorem dksX6_copy_2 : cX6_copy.data.toList.drop 46 = dktX6_copy_2 := dk_seg dksX6_copy_1 22 rfl rfl
theorem dksX6_copy_3 : cX6_copy.data.toList.drop 70 = dktX6_copy_3 := dk_seg dksX6_copy_2 24 rfl rfl
theorem dksX6_copy_4 : cX6_copy.data.toList.drop 93 = dktX6_copy_4 := dk_seg dksX6_copy_3 23 rfl rfl
theorem dksX6_copy_5 : cX6_copy.data.toList.drop 117 = dktX6_copy_5 := dk_seg dksX6_copy_4 24 rfl rfl
theorem dksX6_copy_6 : cX6_copy.data.toList.drop 141 = dktX6_copy_6 := dk_seg dksX6_copy_5 24 rfl rfl
theorem dX6_copy_0 : decode cX6_copy 0 = .ok (.aload_n 0, 1) := dk_42 (dk_at dksX6_copy_0 0 rfl rfl)
theorem dX6_copy_1 : decode cX6_copy 1 = .ok (.aload_n 1, 1) := dk_43 (dk_at dksX6_copy_0 1 rfl rfl)
theorem dX6_copy_2 : decode cX6_copy 2 = .ok (.getfield 30, 3) := dk_180 0 30 (dk_at dksX6_copy_0 2 rfl rfl)
theorem dX6_copy_5 : decode cX6_copy 5 = .ok (.putfield 30, 3) := dk_181 0 30 (dk_at dksX6_copy_0 5 rfl rfl)
theorem dX6_copy_8 : decode cX6_copy 8 = .ok (.aload_n 0, 1) := dk_42 (dk_at dksX6_copy_0 8 rfl rfl)
theorem dX6_copy_9 : decode cX6_copy 9 = .ok (.aload_n 1, 1) := dk_43 (dk_at dksX6_copy_0 9 rfl rfl)
theorem dX6_copy_10 : decode cX6_copy 10 = .ok (.getfield 34, 3) := dk_180 0 34 (dk_at dksX6_copy_0 10 rfl rfl)
theorem dX6_copy_13 : decode cX6_copy 13 = .ok (.putfield 34, 3) := dk_181 0 34 (dk_at dksX6_copy_0 13 rfl rfl)
theorem dX6_copy_16 : decode cX6_copy 16 = .ok (.aload_n 0, 1) := dk_42 (dk_at dksX6_copy_0 16 rfl rfl)
theorem dX6_copy_17 : decode cX6_copy 17 = .ok (.aload_n 1, 1) := dk_43 (dk_at dksX6_copy_0 17 rfl rfl)
theorem dX6_copy_18 : decode cX6_copy 18 = .ok (.getfield 37, 3) := dk_180 0 37 (dk_at dksX6_copy_0 18 rfl rfl)
theorem dX6_copy_21 : decode cX6_copy 21 = .ok (.putfield 37, 3) := dk_181 0 37 (dk_at dksX6_copy_0 21 rfl rfl)
theorem dX6_copy_24 : decode cX6_copy 24 = .ok (.aload_n 0, 1) := dk_42 (dk_at dksX6_copy_1 0 rfl rfl)
theorem dX6_copy_25 : decode cX6_copy 25 = .ok (.aload_n 1, 1) := dk_43 (dk_at dksX6_copy_1 1 rfl rfl)
theorem dX6_copy_26 : decode cX6_copy 26 = .ok (.getfield 81, 3) := dk_180 0 81 (dk_at dksX6_copy_1 2 rfl rfl)
theorem dX6_copy_29 : decode cX6_copy 29 = .ok (.putfield 81, 3) := dk_181 0 81 (dk_at dksX6_copy_1 5 rfl rfl)
theorem dX6_copy_32 : decode cX6_copy 32 = .ok (.iconst 0, 1) := dk_3 (dk_at dksX6_copy_1 8 rfl rfl)
theorem dX6_copy_33 : decode cX6_copy 33 = .ok (.istore_n 2, 1) := dk_61 (dk_at dksX6_copy_1 9 rfl rfl)
theorem dX6_copy_34 : decode cX6_copy 34 = .ok (.iload_n 2, 1) := dk_28 (dk_at dksX6_copy_1 10 rfl rfl)
theorem dX6_copy_35 : decode cX6_copy 35 = .ok (.bipush 8, 2) := dk_16 8 (dk_at dksX6_copy_1 11 rfl rfl)
theorem dX6_copy_37 : decode cX6_copy 37 = .ok (.if_icmp .ge 21, 3) := dk_162 0 21 (dk_at dksX6_copy_1 13 rfl rfl)
theorem dX6_copy_40 : decode cX6_copy 40 = .ok (.aload_n 0, 1) := dk_42 (dk_at dksX6_copy_1 16 rfl rfl)
theorem dX6_copy_41 : decode cX6_copy 41 = .ok (.getfield 15, 3) := dk_180 0 15 (dk_at dksX6_copy_1 17 rfl rfl)
theorem dX6_copy_44 : decode cX6_copy 44 = .ok (.iload_n 2, 1) := dk_28 (dk_at dksX6_copy_1 20 rfl rfl)
theorem dX6_copy_45 : decode cX6_copy 45 = .ok (.aload_n 1, 1) := dk_43 (dk_at dksX6_copy_1 21 rfl rfl)
theorem dX6_copy_46 : decode cX6_copy 46 = .ok (.getfield 15, 3) := dk_180 0 15 (dk_at dksX6_copy_2 0 rfl rfl)
theorem dX6_copy_49 : decode cX6_copy 49 = .ok (.iload_n 2, 1) := dk_28 (dk_at dksX6_copy_2 3 rfl rfl)
theorem dX6_copy_50 : decode cX6_copy 50 = .ok (.iaload, 1) := dk_46 (dk_at dksX6_copy_2 4 rfl rfl)
theorem dX6_copy_51 : decode cX6_copy 51 = .ok (.iastore, 1) := dk_79 (dk_at dksX6_copy_2 5 rfl rfl)
theorem dX6_copy_52 : decode cX6_copy 52 = .ok (.iinc 2 1, 3) := dk_132 2 1 (dk_at dksX6_copy_2 6 rfl rfl)
theorem dX6_copy_55 : decode cX6_copy 55 = .ok (.goto (-21), 3) := dk_167 255 235 (dk_at dksX6_copy_2 9 rfl rfl)
theorem dX6_copy_58 : decode cX6_copy 58 = .ok (.iconst 0, 1) := dk_3 (dk_at dksX6_copy_2 12 rfl rfl)
theorem dX6_copy_59 : decode cX6_copy 59 = .ok (.istore_n 2, 1) := dk_61 (dk_at dksX6_copy_2 13 rfl rfl)
theorem dX6_copy_60 : decode cX6_copy 60 = .ok (.iload_n 2, 1) := dk_28 (dk_at dksX6_copy_2 14 rfl rfl)
theorem dX6_copy_61 : decode cX6_copy 61 = .ok (.bipush 25, 2) := dk_16 25 (dk_at dksX6_copy_2 15 rfl rfl)
theorem dX6_copy_63 : decode cX6_copy 63 = .ok (.if_icmp .ge 21, 3) := dk_162 0 21 (dk_at dksX6_copy_2 17 rfl rfl)
theorem dX6_copy_66 : decode cX6_copy 66 = .ok (.aload_n 0, 1) := dk_42 (dk_at dksX6_copy_2 20 rfl rfl)
theorem dX6_copy_67 : decode cX6_copy 67 = .ok (.getfield 19, 3) := dk_180 0 19 (dk_at dksX6_copy_2 21 rfl rfl)
theorem dX6_copy_70 : decode cX6_copy 70 = .ok (.iload_n 2, 1) := dk_28 (dk_at dksX6_copy_3 0 rfl rfl)
theorem dX6_copy_71 : decode cX6_copy 71 = .ok (.aload_n 1, 1) := dk_43 (dk_at dksX6_copy_3 1 rfl rfl)
theorem dX6_copy_72 : decode cX6_copy 72 = .ok (.getfield 19, 3) := dk_180 0 19 (dk_at dksX6_copy_3 2 rfl rfl)
theorem dX6_copy_75 : decode cX6_copy 75 = .ok (.iload_n 2, 1) := dk_28 (dk_at dksX6_copy_3 5 rfl rfl)
theorem dX6_copy_76 : decode cX6_copy 76 = .ok (.iaload, 1) := dk_46 (dk_at dksX6_copy_3 6 rfl rfl)
theorem dX6_copy_77 : decode cX6_copy 77 = .ok (.iastore, 1) := dk_79 (dk_at dksX6_copy_3 7 rfl rfl)
theorem dX6_copy_78 : decode cX6_copy 78 = .ok (.iinc 2 1, 3) := dk_132 2 1 (dk_at dksX6_copy_3 8 rfl rfl)
theorem dX6_copy_81 : decode cX6_copy 81 = .ok (.goto (-21), 3) := dk_167 255 235 (dk_at dksX6_copy_3 11 rfl rfl)
theorem dX6_copy_84 : decode cX6_copy 84 = .ok (.iconst 0, 1) := dk_3 (dk_at dksX6_copy_3 14 rfl rfl)
theorem dX6_copy_85 : decode cX6_copy 85 = .ok (.istore_n 2, 1) := dk_61 (dk_at dksX6_copy_3 15 rfl rfl)
theorem dX6_copy_86 : decode cX6_copy 86 = .ok (.iload_n 2, 1) := dk_28 (dk_at dksX6_copy_3 16 rfl rfl)
theorem dX6_copy_87 : decode cX6_copy 87 = .ok (.bipush 6, 2) := dk_16 6 (dk_at dksX6_copy_3 17 rfl rfl)
theorem dX6_copy_89 : decode cX6_copy 89 = .ok (.if_icmp .ge 21, 3) := dk_162 0 21 (dk_at dksX6_copy_3 19 rfl rfl)
theorem dX6_copy_92 : decode cX6_copy 92 = .ok (.aload_n 0, 1) := dk_42 (dk_at dksX6_copy_3 22 rfl rfl)
theorem dX6_copy_93 : decode cX6_copy 93 = .ok (.getfield 22, 3) := dk_180 0 22 (dk_at dksX6_copy_4 0 rfl rfl)
theorem dX6_copy_96 : decode cX6_copy 96 = .ok (.iload_n 2, 1) := dk_28 (dk_at dksX6_copy_4 3 rfl rfl)
theorem dX6_copy_97 : decode cX6_copy 97 = .ok (.aload_n 1, 1) := dk_43 (dk_at dksX6_copy_4 4 rfl rfl)
theorem dX6_copy_98 : decode cX6_copy 98 = .ok (.getfield 22, 3) := dk_180 0 22 (dk_at dksX6_copy_4 5 rfl rfl)
theorem dX6_copy_101 : decode cX6_copy 101 = .ok (.iload_n 2, 1) := dk_28 (dk_at dksX6_copy_4 8 rfl rfl)
theorem dX6_copy_102 : decode cX6_copy 102 = .ok (.iaload, 1) := dk_46 (dk_at dksX6_copy_4 9 rfl rfl)
theorem dX6_copy_103 : decode cX6_copy 103 = .ok (.iastore, 1) := dk_79 (dk_at dksX6_copy_4 10 rfl rfl)
theorem dX6_copy_104 : decode cX6_copy 104 = .ok (.iinc 2 1, 3) := dk_132 2 1 (dk_at dksX6_copy_4 11 rfl rfl)
theorem dX6_copy_107 : decode cX6_copy 107 = .ok (.goto (-21), 3) := dk_167 255 235 (dk_at dksX6_copy_4 14 rfl rfl)
theorem dX6_copy_110 : decode cX6_copy 110 = .ok (.iconst 0, 1) := dk_3 (dk_at dksX6_copy_4 17 rfl rfl)
theorem dX6_copy_111 : decode cX6_copy 111 = .ok (.istore_n 2, 1) := dk_61 (dk_at dksX6_copy_4 18 rfl rfl)
theorem dX6_copy_112 : decode cX6_copy 112 = .ok (.iload_n 2, 1) := dk_28 (dk_at dksX6_copy_4 19 rfl rfl)
theorem dX6_copy_113 : decode cX6_copy 113 = .ok (.aload_n 0, 1) := dk_42 (dk_at dksX6_copy_4 20 rfl rfl)
theorem dX6_copy_114 : decode cX6_copy 114 = .ok (.getfield 37, 3) := dk_180 0 37 (dk_at dksX6_copy_4 21 rfl rfl)
theorem dX6_copy_117 : decode cX6_copy 117 = .ok (.if_icmp .ge 38, 3) := dk_162 0 38 (dk_at dksX6_copy_5 0 rfl rfl)
theorem dX6_copy_120 : decode cX6_copy 120 = .ok (.iconst 0, 1) := dk_3 (dk_at dksX6_copy_5 3 rfl rfl)
theorem dX6_copy_121 : decode cX6_copy 121 = .ok (.istore_n 3, 1) := dk_62 (dk_at dksX6_copy_5 4 rfl rfl)
theorem dX6_copy_122 : decode cX6_copy 122 = .ok (.iload_n 3, 1) := dk_29 (dk_at dksX6_copy_5 5 rfl rfl)
theorem dX6_copy_123 : decode cX6_copy 123 = .ok (.iconst 5, 1) := dk_8 (dk_at dksX6_copy_5 6 rfl rfl)
theorem dX6_copy_124 : decode cX6_copy 124 = .ok (.if_icmp .ge 25, 3) := dk_162 0 25 (dk_at dksX6_copy_5 7 rfl rfl)
theorem dX6_copy_127 : decode cX6_copy 127 = .ok (.aload_n 0, 1) := dk_42 (dk_at dksX6_copy_5 10 rfl rfl)
theorem dX6_copy_128 : decode cX6_copy 128 = .ok (.getfield 27, 3) := dk_180 0 27 (dk_at dksX6_copy_5 11 rfl rfl)
theorem dX6_copy_131 : decode cX6_copy 131 = .ok (.iload_n 2, 1) := dk_28 (dk_at dksX6_copy_5 14 rfl rfl)
theorem dX6_copy_132 : decode cX6_copy 132 = .ok (.aaload, 1) := dk_50 (dk_at dksX6_copy_5 15 rfl rfl)
theorem dX6_copy_133 : decode cX6_copy 133 = .ok (.iload_n 3, 1) := dk_29 (dk_at dksX6_copy_5 16 rfl rfl)
theorem dX6_copy_134 : decode cX6_copy 134 = .ok (.aload_n 1, 1) := dk_43 (dk_at dksX6_copy_5 17 rfl rfl)
theorem dX6_copy_135 : decode cX6_copy 135 = .ok (.getfield 27, 3) := dk_180 0 27 (dk_at dksX6_copy_5 18 rfl rfl)
theorem dX6_copy_138 : decode cX6_copy 138 = .ok (.iload_n 2, 1) := dk_28 (dk_at dksX6_copy_5 21 rfl rfl)
theorem dX6_copy_139 : decode cX6_copy 139 = .ok (.aaload, 1) := dk_50 (dk_at dksX6_copy_5 22 rfl rfl)
theorem dX6_copy_140 : decode cX6_copy 140 = .ok (.iload_n 3, 1) := dk_29 (dk_at dksX6_copy_5 23 rfl rfl)
theorem dX6_copy_141 : decode cX6_copy 141 = .ok (.iaload, 1) := dk_46 (dk_at dksX6_copy_6 0 rfl rfl)
theorem dX6_copy_142 : decode cX6_copy 142 = .ok (.iastore, 1) := dk_79 (dk_at dksX6_copy_6 1 rfl rfl)
theorem dX6_copy_143 : decode cX6_copy 143 = .ok (.iinc 3 1, 3) := dk_132 3 1 (dk_at dksX6_copy_6 2 rfl rfl)
theorem dX6_copy_146 : decode cX6_copy 146 = .ok (.goto (-24), 3) := dk_167 255 232 (dk_at dksX6_copy_6 5 rfl rfl)
theorem dX6_copy_149 : decode cX6_copy 149 = .ok (.iinc 2 1, 3) := dk_132 2 1 (dk_at dksX6_copy_6 8 rfl rfl)
theorem dX6_copy_152 : decode cX6_copy 152 = .ok (.goto (-40), 3) := dk_167 255 216 (dk_at dksX6_copy_6 11 rfl rfl)
theorem dX6_copy_155 : decode cX6_copy 155 = .ok (.aload_n 0, 1) := dk_42 (dk_at dksX6_copy_6 14 rfl rfl)
theorem dX6_copy_156 : decode cX6_copy 156 = .ok (.areturn, 1) := dk_176 (dk_at dksX6_copy_6 15 rfl rfl)
abbrev cX6_moves : ByteArray := prog_20_method_9_code
def yX6_moves : MethodName := ⟨RX6, "moves", "(II)I"⟩
def dkwX6_moves_3 : List UInt8 := [27, 79, 42, 4, 42, 180, 0, 34, 100, 181, 0, 34, 29, 172]
abbrev dktX6_moves_3 : List UInt8 := dkwX6_moves_3 ++ []
def dkwX6_moves_2 : List UInt8 := [153, 0, 7, 4, 167, 0, 4, 3, 96, 181, 0, 81, 42, 180, 0, 15, 27, 28, 79, 42, 180, 0, 19, 28]
abbrev dktX6_moves_2 : List UInt8 := dkwX6_moves_2 ++ dktX6_moves_3
def dkwX6_moves_1 : List UInt8 := [42, 180, 0, 15, 29, 2, 79, 42, 89, 180, 0, 81, 42, 180, 0, 3, 29, 182, 0, 84, 180, 0, 88]
abbrev dktX6_moves_1 : List UInt8 := dkwX6_moves_1 ++ dktX6_moves_2
def dkwX6_moves_0 : List UInt8 := [42, 180, 0, 19, 28, 46, 62, 42, 180, 0, 19, 42, 180, 0, 15, 27, 46, 2, 79, 29, 2, 159, 0, 38]
abbrev dktX6_moves_0 : List UInt8 := dkwX6_moves_0 ++ dktX6_moves_1
theorem dksX6_moves_0 : cX6_moves.data.toList.drop 0 = dktX6_moves_0 := by decide +kernel
theorem dksX6_moves_1 : cX6_moves.data.toList.drop 24 = dktX6_moves_1 := dk_seg dksX6_moves_0 24 rfl rfl
theorem dksX6_moves_2 : cX6_moves.data.toList.drop 47 = dktX6_moves_2 := dk_seg dksX6_moves_1 23 rfl rfl
theorem dksX6_moves_3 : cX6_moves.data.toList.drop 71 = dktX6_moves_3 := dk_seg dksX6_moves_2 24 rfl rfl
theorem dX6_moves_0 : decode cX6_moves 0 = .ok (.aload_n 0, 1) := dk_42 (dk_at dksX6_moves_0 0 rfl rfl)
theorem dX6_moves_1 : decode cX6_moves 1 = .ok (.getfield 19, 3) := dk_180 0 19 (dk_at dksX6_moves_0 1 rfl rfl)
theorem dX6_moves_4 : decode cX6_moves 4 = .ok (.iload_n 2, 1) := dk_28 (dk_at dksX6_moves_0 4 rfl rfl)
theorem dX6_moves_5 : decode cX6_moves 5 = .ok (.iaload, 1) := dk_46 (dk_at dksX6_moves_0 5 rfl rfl)
theorem dX6_moves_6 : decode cX6_moves 6 = .ok (.istore_n 3, 1) := dk_62 (dk_at dksX6_moves_0 6 rfl rfl)
theorem dX6_moves_7 : decode cX6_moves 7 = .ok (.aload_n 0, 1) := dk_42 (dk_at dksX6_moves_0 7 rfl rfl)
theorem dX6_moves_8 : decode cX6_moves 8 = .ok (.getfield 19, 3) := dk_180 0 19 (dk_at dksX6_moves_0 8 rfl rfl)
theorem dX6_moves_11 : decode cX6_moves 11 = .ok (.aload_n 0, 1) := dk_42 (dk_at dksX6_moves_0 11 rfl rfl)
theorem dX6_moves_12 : decode cX6_moves 12 = .ok (.getfield 15, 3) := dk_180 0 15 (dk_at dksX6_moves_0 12 rfl rfl)
theorem dX6_moves_15 : decode cX6_moves 15 = .ok (.iload_n 1, 1) := dk_27 (dk_at dksX6_moves_0 15 rfl rfl)
theorem dX6_moves_16 : decode cX6_moves 16 = .ok (.iaload, 1) := dk_46 (dk_at dksX6_moves_0 16 rfl rfl)
theorem dX6_moves_17 : decode cX6_moves 17 = .ok (.iconst (-1), 1) := dk_2 (dk_at dksX6_moves_0 17 rfl rfl)
theorem dX6_moves_18 : decode cX6_moves 18 = .ok (.iastore, 1) := dk_79 (dk_at dksX6_moves_0 18 rfl rfl)
theorem dX6_moves_19 : decode cX6_moves 19 = .ok (.iload_n 3, 1) := dk_29 (dk_at dksX6_moves_0 19 rfl rfl)
theorem dX6_moves_20 : decode cX6_moves 20 = .ok (.iconst (-1), 1) := dk_2 (dk_at dksX6_moves_0 20 rfl rfl)
theorem dX6_moves_21 : decode cX6_moves 21 = .ok (.if_icmp .eq 38, 3) := dk_159 0 38 (dk_at dksX6_moves_0 21 rfl rfl)
theorem dX6_moves_24 : decode cX6_moves 24 = .ok (.aload_n 0, 1) := dk_42 (dk_at dksX6_moves_1 0 rfl rfl)
theorem dX6_moves_25 : decode cX6_moves 25 = .ok (.getfield 15, 3) := dk_180 0 15 (dk_at dksX6_moves_1 1 rfl rfl)
theorem dX6_moves_28 : decode cX6_moves 28 = .ok (.iload_n 3, 1) := dk_29 (dk_at dksX6_moves_1 4 rfl rfl)
theorem dX6_moves_29 : decode cX6_moves 29 = .ok (.iconst (-1), 1) := dk_2 (dk_at dksX6_moves_1 5 rfl rfl)
theorem dX6_moves_30 : decode cX6_moves 30 = .ok (.iastore, 1) := dk_79 (dk_at dksX6_moves_1 6 rfl rfl)
theorem dX6_moves_31 : decode cX6_moves 31 = .ok (.aload_n 0, 1) := dk_42 (dk_at dksX6_moves_1 7 rfl rfl)
theorem dX6_moves_32 : decode cX6_moves 32 = .ok (.dup, 1) := dk_89 (dk_at dksX6_moves_1 8 rfl rfl)
theorem dX6_moves_33 : decode cX6_moves 33 = .ok (.getfield 81, 3) := dk_180 0 81 (dk_at dksX6_moves_1 9 rfl rfl)
theorem dX6_moves_36 : decode cX6_moves 36 = .ok (.aload_n 0, 1) := dk_42 (dk_at dksX6_moves_1 12 rfl rfl)
theorem dX6_moves_37 : decode cX6_moves 37 = .ok (.getfield 3, 3) := dk_180 0 3 (dk_at dksX6_moves_1 13 rfl rfl)
theorem dX6_moves_40 : decode cX6_moves 40 = .ok (.iload_n 3, 1) := dk_29 (dk_at dksX6_moves_1 16 rfl rfl)
theorem dX6_moves_41 : decode cX6_moves 41 = .ok (.invokevirtual 84, 3) := dk_182 0 84 (dk_at dksX6_moves_1 17 rfl rfl)
theorem dX6_moves_44 : decode cX6_moves 44 = .ok (.getfield 88, 3) := dk_180 0 88 (dk_at dksX6_moves_1 20 rfl rfl)
theorem dX6_moves_47 : decode cX6_moves 47 = .ok (.ifCond .eq 7, 3) := dk_153 0 7 (dk_at dksX6_moves_2 0 rfl rfl)
theorem dX6_moves_50 : decode cX6_moves 50 = .ok (.iconst 1, 1) := dk_4 (dk_at dksX6_moves_2 3 rfl rfl)
theorem dX6_moves_51 : decode cX6_moves 51 = .ok (.goto 4, 3) := dk_167 0 4 (dk_at dksX6_moves_2 4 rfl rfl)
theorem dX6_moves_54 : decode cX6_moves 54 = .ok (.iconst 0, 1) := dk_3 (dk_at dksX6_moves_2 7 rfl rfl)
theorem dX6_moves_55 : decode cX6_moves 55 = .ok (.iadd, 1) := dk_96 (dk_at dksX6_moves_2 8 rfl rfl)
theorem dX6_moves_56 : decode cX6_moves 56 = .ok (.putfield 81, 3) := dk_181 0 81 (dk_at dksX6_moves_2 9 rfl rfl)
theorem dX6_moves_59 : decode cX6_moves 59 = .ok (.aload_n 0, 1) := dk_42 (dk_at dksX6_moves_2 12 rfl rfl)
theorem dX6_moves_60 : decode cX6_moves 60 = .ok (.getfield 15, 3) := dk_180 0 15 (dk_at dksX6_moves_2 13 rfl rfl)
theorem dX6_moves_63 : decode cX6_moves 63 = .ok (.iload_n 1, 1) := dk_27 (dk_at dksX6_moves_2 16 rfl rfl)
theorem dX6_moves_64 : decode cX6_moves 64 = .ok (.iload_n 2, 1) := dk_28 (dk_at dksX6_moves_2 17 rfl rfl)
theorem dX6_moves_65 : decode cX6_moves 65 = .ok (.iastore, 1) := dk_79 (dk_at dksX6_moves_2 18 rfl rfl)
theorem dX6_moves_66 : decode cX6_moves 66 = .ok (.aload_n 0, 1) := dk_42 (dk_at dksX6_moves_2 19 rfl rfl)
theorem dX6_moves_67 : decode cX6_moves 67 = .ok (.getfield 19, 3) := dk_180 0 19 (dk_at dksX6_moves_2 20 rfl rfl)
theorem dX6_moves_70 : decode cX6_moves 70 = .ok (.iload_n 2, 1) := dk_28 (dk_at dksX6_moves_2 23 rfl rfl)
theorem dX6_moves_71 : decode cX6_moves 71 = .ok (.iload_n 1, 1) := dk_27 (dk_at dksX6_moves_3 0 rfl rfl)
theorem dX6_moves_72 : decode cX6_moves 72 = .ok (.iastore, 1) := dk_79 (dk_at dksX6_moves_3 1 rfl rfl)
theorem dX6_moves_73 : decode cX6_moves 73 = .ok (.aload_n 0, 1) := dk_42 (dk_at dksX6_moves_3 2 rfl rfl)
theorem dX6_moves_74 : decode cX6_moves 74 = .ok (.iconst 1, 1) := dk_4 (dk_at dksX6_moves_3 3 rfl rfl)
theorem dX6_moves_75 : decode cX6_moves 75 = .ok (.aload_n 0, 1) := dk_42 (dk_at dksX6_moves_3 4 rfl rfl)
theorem dX6_moves_76 : decode cX6_moves 76 = .ok (.getfield 34, 3) := dk_180 0 34 (dk_at dksX6_moves_3 5 rfl rfl)
theorem dX6_moves_79 : decode cX6_moves 79 = .ok (.isub, 1) := dk_100 (dk_at dksX6_moves_3 8 rfl rfl)
theorem dX6_moves_80 : decode cX6_moves 80 = .ok (.putfield 34, 3) := dk_181 0 34 (dk_at dksX6_moves_3 9 rfl rfl)
theorem dX6_moves_83 : decode cX6_moves 83 = .ok (.iload_n 3, 1) := dk_29 (dk_at dksX6_moves_3 12 rfl rfl)
theorem dX6_moves_84 : decode cX6_moves 84 = .ok (.ireturn, 1) := dk_172 (dk_at dksX6_moves_3 13 rfl rfl)
abbrev cX6_isCheck : ByteArray := prog_20_method_11_code
def yX6_isCheck : MethodName := ⟨RX6, "isCheck", "()Z"⟩
def dkwX6_isCheck_5 : List UInt8 := [167, 255, 144, 3, 172]
abbrev dktX6_isCheck_5 : List UInt8 := dkwX6_isCheck_5 ++ []
def dkwX6_isCheck_4 : List UInt8 := [180, 0, 15, 27, 46, 182, 0, 126, 153, 0, 5, 4, 172, 132, 2, 1, 167, 255, 208, 132, 1, 1]
abbrev dktX6_isCheck_4 : List UInt8 := dkwX6_isCheck_4 ++ dktX6_isCheck_5
def dkwX6_isCheck_3 : List UInt8 := [162, 0, 43, 42, 180, 0, 3, 28, 182, 0, 44, 180, 0, 94, 42, 180, 0, 34, 159, 0, 19, 42, 28, 42]
abbrev dktX6_isCheck_3 : List UInt8 := dkwX6_isCheck_3 ++ dktX6_isCheck_4
def dkwX6_isCheck_2 : List UInt8 := [180, 0, 15, 27, 46, 2, 160, 0, 6, 167, 0, 56, 3, 61, 28, 42, 180, 0, 3, 182, 0, 40]
abbrev dktX6_isCheck_2 : List UInt8 := dkwX6_isCheck_2 ++ dktX6_isCheck_3
def dkwX6_isCheck_1 : List UInt8 := [153, 0, 87, 42, 180, 0, 3, 27, 182, 0, 44, 180, 0, 94, 42, 180, 0, 34, 160, 0, 69, 42]
abbrev dktX6_isCheck_1 : List UInt8 := dkwX6_isCheck_1 ++ dktX6_isCheck_2
def dkwX6_isCheck_0 : List UInt8 := [3, 60, 27, 42, 180, 0, 3, 182, 0, 40, 162, 0, 107, 42, 180, 0, 3, 27, 182, 0, 84, 180, 0, 88]
abbrev dktX6_isCheck_0 : List UInt8 := dkwX6_isCheck_0 ++ dktX6_isCheck_1
theorem dksX6_isCheck_0 : cX6_isCheck.data.toList.drop 0 = dktX6_isCheck_0 := by decide +kernel
theorem dksX6_isCheck_1 : cX6_isCheck.data.toList.drop 24 = dktX6_isCheck_1 := dk_seg dksX6_isCheck_0 24 rfl rfl
theorem dksX6_isCheck_2 : cX6_isCheck.data.toList.drop 46 = dktX6_isCheck_2 := dk_seg dksX6_isCheck_1 22 rfl rfl
theorem dksX6_isCheck_3 : cX6_isCheck.data.toList.drop 68 = dktX6_isCheck_3 := dk_seg dksX6_isCheck_2 22 rfl rfl
theorem dksX6_isCheck_4 : cX6_isCheck.data.toList.drop 92 = dktX6_isCheck_4 := dk_seg dksX6_isCheck_3 24 rfl rfl
theorem dksX6_isCheck_5 : cX6_isCheck.data.toList.drop 114 = dktX6_isCheck_5 := dk_seg dksX6_isCheck_4 22 rfl rfl
theorem dX6_isCheck_0 : decode cX6_isCheck 0 = .ok (.iconst 0, 1) := dk_3 (dk_at dksX6_isCheck_0 0 rfl rfl)
theorem dX6_isCheck_1 : decode cX6_isCheck 1 = .ok (.istore_n 1, 1) := dk_60 (dk_at dksX6_isCheck_0 1 rfl rfl)
theorem dX6_isCheck_2 : decode cX6_isCheck 2 = .ok (.iload_n 1, 1) := dk_27 (dk_at dksX6_isCheck_0 2 rfl rfl)
theorem dX6_isCheck_3 : decode cX6_isCheck 3 = .ok (.aload_n 0, 1) := dk_42 (dk_at dksX6_isCheck_0 3 rfl rfl)
theorem dX6_isCheck_4 : decode cX6_isCheck 4 = .ok (.getfield 3, 3) := dk_180 0 3 (dk_at dksX6_isCheck_0 4 rfl rfl)
theorem dX6_isCheck_7 : decode cX6_isCheck 7 = .ok (.invokevirtual 40, 3) := dk_182 0 40 (dk_at dksX6_isCheck_0 7 rfl rfl)
theorem dX6_isCheck_10 : decode cX6_isCheck 10 = .ok (.if_icmp .ge 107, 3) := dk_162 0 107 (dk_at dksX6_isCheck_0 10 rfl rfl)
theorem dX6_isCheck_13 : decode cX6_isCheck 13 = .ok (.aload_n 0, 1) := dk_42 (dk_at dksX6_isCheck_0 13 rfl rfl)
theorem dX6_isCheck_14 : decode cX6_isCheck 14 = .ok (.getfield 3, 3) := dk_180 0 3 (dk_at dksX6_isCheck_0 14 rfl rfl)
theorem dX6_isCheck_17 : decode cX6_isCheck 17 = .ok (.iload_n 1, 1) := dk_27 (dk_at dksX6_isCheck_0 17 rfl rfl)
theorem dX6_isCheck_18 : decode cX6_isCheck 18 = .ok (.invokevirtual 84, 3) := dk_182 0 84 (dk_at dksX6_isCheck_0 18 rfl rfl)
theorem dX6_isCheck_21 : decode cX6_isCheck 21 = .ok (.getfield 88, 3) := dk_180 0 88 (dk_at dksX6_isCheck_0 21 rfl rfl)
theorem dX6_isCheck_24 : decode cX6_isCheck 24 = .ok (.ifCond .eq 87, 3) := dk_153 0 87 (dk_at dksX6_isCheck_1 0 rfl rfl)
theorem dX6_isCheck_27 : decode cX6_isCheck 27 = .ok (.aload_n 0, 1) := dk_42 (dk_at dksX6_isCheck_1 3 rfl rfl)
theorem dX6_isCheck_28 : decode cX6_isCheck 28 = .ok (.getfield 3, 3) := dk_180 0 3 (dk_at dksX6_isCheck_1 4 rfl rfl)
theorem dX6_isCheck_31 : decode cX6_isCheck 31 = .ok (.iload_n 1, 1) := dk_27 (dk_at dksX6_isCheck_1 7 rfl rfl)
theorem dX6_isCheck_32 : decode cX6_isCheck 32 = .ok (.invokevirtual 44, 3) := dk_182 0 44 (dk_at dksX6_isCheck_1 8 rfl rfl)
theorem dX6_isCheck_35 : decode cX6_isCheck 35 = .ok (.getfield 94, 3) := dk_180 0 94 (dk_at dksX6_isCheck_1 11 rfl rfl)
theorem dX6_isCheck_38 : decode cX6_isCheck 38 = .ok (.aload_n 0, 1) := dk_42 (dk_at dksX6_isCheck_1 14 rfl rfl)
theorem dX6_isCheck_39 : decode cX6_isCheck 39 = .ok (.getfield 34, 3) := dk_180 0 34 (dk_at dksX6_isCheck_1 15 rfl rfl)
theorem dX6_isCheck_42 : decode cX6_isCheck 42 = .ok (.if_icmp .ne 69, 3) := dk_160 0 69 (dk_at dksX6_isCheck_1 18 rfl rfl)
theorem dX6_isCheck_45 : decode cX6_isCheck 45 = .ok (.aload_n 0, 1) := dk_42 (dk_at dksX6_isCheck_1 21 rfl rfl)
theorem dX6_isCheck_46 : decode cX6_isCheck 46 = .ok (.getfield 15, 3) := dk_180 0 15 (dk_at dksX6_isCheck_2 0 rfl rfl)
theorem dX6_isCheck_49 : decode cX6_isCheck 49 = .ok (.iload_n 1, 1) := dk_27 (dk_at dksX6_isCheck_2 3 rfl rfl)
theorem dX6_isCheck_50 : decode cX6_isCheck 50 = .ok (.iaload, 1) := dk_46 (dk_at dksX6_isCheck_2 4 rfl rfl)
theorem dX6_isCheck_51 : decode cX6_isCheck 51 = .ok (.iconst (-1), 1) := dk_2 (dk_at dksX6_isCheck_2 5 rfl rfl)
theorem dX6_isCheck_52 : decode cX6_isCheck 52 = .ok (.if_icmp .ne 6, 3) := dk_160 0 6 (dk_at dksX6_isCheck_2 6 rfl rfl)
theorem dX6_isCheck_55 : decode cX6_isCheck 55 = .ok (.goto 56, 3) := dk_167 0 56 (dk_at dksX6_isCheck_2 9 rfl rfl)
theorem dX6_isCheck_58 : decode cX6_isCheck 58 = .ok (.iconst 0, 1) := dk_3 (dk_at dksX6_isCheck_2 12 rfl rfl)
theorem dX6_isCheck_59 : decode cX6_isCheck 59 = .ok (.istore_n 2, 1) := dk_61 (dk_at dksX6_isCheck_2 13 rfl rfl)
theorem dX6_isCheck_60 : decode cX6_isCheck 60 = .ok (.iload_n 2, 1) := dk_28 (dk_at dksX6_isCheck_2 14 rfl rfl)
theorem dX6_isCheck_61 : decode cX6_isCheck 61 = .ok (.aload_n 0, 1) := dk_42 (dk_at dksX6_isCheck_2 15 rfl rfl)
theorem dX6_isCheck_62 : decode cX6_isCheck 62 = .ok (.getfield 3, 3) := dk_180 0 3 (dk_at dksX6_isCheck_2 16 rfl rfl)
theorem dX6_isCheck_65 : decode cX6_isCheck 65 = .ok (.invokevirtual 40, 3) := dk_182 0 40 (dk_at dksX6_isCheck_2 19 rfl rfl)
theorem dX6_isCheck_68 : decode cX6_isCheck 68 = .ok (.if_icmp .ge 43, 3) := dk_162 0 43 (dk_at dksX6_isCheck_3 0 rfl rfl)
theorem dX6_isCheck_71 : decode cX6_isCheck 71 = .ok (.aload_n 0, 1) := dk_42 (dk_at dksX6_isCheck_3 3 rfl rfl)
theorem dX6_isCheck_72 : decode cX6_isCheck 72 = .ok (.getfield 3, 3) := dk_180 0 3 (dk_at dksX6_isCheck_3 4 rfl rfl)
theorem dX6_isCheck_75 : decode cX6_isCheck 75 = .ok (.iload_n 2, 1) := dk_28 (dk_at dksX6_isCheck_3 7 rfl rfl)
theorem dX6_isCheck_76 : decode cX6_isCheck 76 = .ok (.invokevirtual 44, 3) := dk_182 0 44 (dk_at dksX6_isCheck_3 8 rfl rfl)
theorem dX6_isCheck_79 : decode cX6_isCheck 79 = .ok (.getfield 94, 3) := dk_180 0 94 (dk_at dksX6_isCheck_3 11 rfl rfl)
theorem dX6_isCheck_82 : decode cX6_isCheck 82 = .ok (.aload_n 0, 1) := dk_42 (dk_at dksX6_isCheck_3 14 rfl rfl)
theorem dX6_isCheck_83 : decode cX6_isCheck 83 = .ok (.getfield 34, 3) := dk_180 0 34 (dk_at dksX6_isCheck_3 15 rfl rfl)
theorem dX6_isCheck_86 : decode cX6_isCheck 86 = .ok (.if_icmp .eq 19, 3) := dk_159 0 19 (dk_at dksX6_isCheck_3 18 rfl rfl)
theorem dX6_isCheck_89 : decode cX6_isCheck 89 = .ok (.aload_n 0, 1) := dk_42 (dk_at dksX6_isCheck_3 21 rfl rfl)
theorem dX6_isCheck_90 : decode cX6_isCheck 90 = .ok (.iload_n 2, 1) := dk_28 (dk_at dksX6_isCheck_3 22 rfl rfl)
theorem dX6_isCheck_91 : decode cX6_isCheck 91 = .ok (.aload_n 0, 1) := dk_42 (dk_at dksX6_isCheck_3 23 rfl rfl)
theorem dX6_isCheck_92 : decode cX6_isCheck 92 = .ok (.getfield 15, 3) := dk_180 0 15 (dk_at dksX6_isCheck_4 0 rfl rfl)
theorem dX6_isCheck_95 : decode cX6_isCheck 95 = .ok (.iload_n 1, 1) := dk_27 (dk_at dksX6_isCheck_4 3 rfl rfl)
theorem dX6_isCheck_96 : decode cX6_isCheck 96 = .ok (.iaload, 1) := dk_46 (dk_at dksX6_isCheck_4 4 rfl rfl)
theorem dX6_isCheck_97 : decode cX6_isCheck 97 = .ok (.invokevirtual 126, 3) := dk_182 0 126 (dk_at dksX6_isCheck_4 5 rfl rfl)
theorem dX6_isCheck_100 : decode cX6_isCheck 100 = .ok (.ifCond .eq 5, 3) := dk_153 0 5 (dk_at dksX6_isCheck_4 8 rfl rfl)
theorem dX6_isCheck_103 : decode cX6_isCheck 103 = .ok (.iconst 1, 1) := dk_4 (dk_at dksX6_isCheck_4 11 rfl rfl)
theorem dX6_isCheck_104 : decode cX6_isCheck 104 = .ok (.ireturn, 1) := dk_172 (dk_at dksX6_isCheck_4 12 rfl rfl)
theorem dX6_isCheck_105 : decode cX6_isCheck 105 = .ok (.iinc 2 1, 3) := dk_132 2 1 (dk_at dksX6_isCheck_4 13 rfl rfl)
theorem dX6_isCheck_108 : decode cX6_isCheck 108 = .ok (.goto (-48), 3) := dk_167 255 208 (dk_at dksX6_isCheck_4 16 rfl rfl)
theorem dX6_isCheck_111 : decode cX6_isCheck 111 = .ok (.iinc 1 1, 3) := dk_132 1 1 (dk_at dksX6_isCheck_4 19 rfl rfl)
theorem dX6_isCheck_114 : decode cX6_isCheck 114 = .ok (.goto (-112), 3) := dk_167 255 144 (dk_at dksX6_isCheck_5 0 rfl rfl)
theorem dX6_isCheck_117 : decode cX6_isCheck 117 = .ok (.iconst 0, 1) := dk_3 (dk_at dksX6_isCheck_5 3 rfl rfl)
theorem dX6_isCheck_118 : decode cX6_isCheck 118 = .ok (.ireturn, 1) := dk_172 (dk_at dksX6_isCheck_5 4 rfl rfl)
abbrev cX6_balance : ByteArray := prog_20_method_12_code
def yX6_balance : MethodName := ⟨RX6, "balance", "(I)I"⟩
def dkwX6_balance_3 : List UInt8 := [116, 96, 61, 132, 3, 1, 167, 255, 184, 28, 172]
abbrev dktX6_balance_3 : List UInt8 := dkwX6_balance_3 ++ []
def dkwX6_balance_2 : List UInt8 := [180, 0, 3, 29, 182, 0, 84, 180, 0, 142, 167, 0, 15, 42, 180, 0, 3, 29, 182, 0, 84, 180, 0, 142]
abbrev dktX6_balance_2 : List UInt8 := dkwX6_balance_2 ++ dktX6_balance_3
def dkwX6_balance_1 : List UInt8 := [160, 0, 7, 3, 167, 0, 44, 42, 180, 0, 3, 29, 182, 0, 44, 180, 0, 94, 27, 160, 0, 17, 42]
abbrev dktX6_balance_1 : List UInt8 := dkwX6_balance_1 ++ dktX6_balance_2
def dkwX6_balance_0 : List UInt8 := [3, 61, 3, 62, 29, 42, 180, 0, 3, 182, 0, 40, 162, 0, 67, 28, 42, 180, 0, 15, 29, 46, 2]
abbrev dktX6_balance_0 : List UInt8 := dkwX6_balance_0 ++ dktX6_balance_1
theorem dksX6_balance_0 : cX6_balance.data.toList.drop 0 = dktX6_balance_0 := by decide +kernel
theorem dksX6_balance_1 : cX6_balance.data.toList.drop 23 = dktX6_balance_1 := dk_seg dksX6_balance_0 23 rfl rfl
theorem dksX6_balance_2 : cX6_balance.data.toList.drop 46 = dktX6_balance_2 := dk_seg dksX6_balance_1 23 rfl rfl
theorem dksX6_balance_3 : cX6_balance.data.toList.drop 70 = dktX6_balance_3 := dk_seg dksX6_balance_2 24 rfl rfl
theorem dX6_balance_0 : decode cX6_balance 0 = .ok (.iconst 0, 1) := dk_3 (dk_at dksX6_balance_0 0 rfl rfl)
theorem dX6_balance_1 : decode cX6_balance 1 = .ok (.istore_n 2, 1) := dk_61 (dk_at dksX6_balance_0 1 rfl rfl)
theorem dX6_balance_2 : decode cX6_balance 2 = .ok (.iconst 0, 1) := dk_3 (dk_at dksX6_balance_0 2 rfl rfl)
theorem dX6_balance_3 : decode cX6_balance 3 = .ok (.istore_n 3, 1) := dk_62 (dk_at dksX6_balance_0 3 rfl rfl)
theorem dX6_balance_4 : decode cX6_balance 4 = .ok (.iload_n 3, 1) := dk_29 (dk_at dksX6_balance_0 4 rfl rfl)
theorem dX6_balance_5 : decode cX6_balance 5 = .ok (.aload_n 0, 1) := dk_42 (dk_at dksX6_balance_0 5 rfl rfl)
theorem dX6_balance_6 : decode cX6_balance 6 = .ok (.getfield 3, 3) := dk_180 0 3 (dk_at dksX6_balance_0 6 rfl rfl)
theorem dX6_balance_9 : decode cX6_balance 9 = .ok (.invokevirtual 40, 3) := dk_182 0 40 (dk_at dksX6_balance_0 9 rfl rfl)
theorem dX6_balance_12 : decode cX6_balance 12 = .ok (.if_icmp .ge 67, 3) := dk_162 0 67 (dk_at dksX6_balance_0 12 rfl rfl)
theorem dX6_balance_15 : decode cX6_balance 15 = .ok (.iload_n 2, 1) := dk_28 (dk_at dksX6_balance_0 15 rfl rfl)
theorem dX6_balance_16 : decode cX6_balance 16 = .ok (.aload_n 0, 1) := dk_42 (dk_at dksX6_balance_0 16 rfl rfl)
theorem dX6_balance_17 : decode cX6_balance 17 = .ok (.getfield 15, 3) := dk_180 0 15 (dk_at dksX6_balance_0 17 rfl rfl)
theorem dX6_balance_20 : decode cX6_balance 20 = .ok (.iload_n 3, 1) := dk_29 (dk_at dksX6_balance_0 20 rfl rfl)
theorem dX6_balance_21 : decode cX6_balance 21 = .ok (.iaload, 1) := dk_46 (dk_at dksX6_balance_0 21 rfl rfl)
theorem dX6_balance_22 : decode cX6_balance 22 = .ok (.iconst (-1), 1) := dk_2 (dk_at dksX6_balance_0 22 rfl rfl)
theorem dX6_balance_23 : decode cX6_balance 23 = .ok (.if_icmp .ne 7, 3) := dk_160 0 7 (dk_at dksX6_balance_1 0 rfl rfl)
theorem dX6_balance_26 : decode cX6_balance 26 = .ok (.iconst 0, 1) := dk_3 (dk_at dksX6_balance_1 3 rfl rfl)
theorem dX6_balance_27 : decode cX6_balance 27 = .ok (.goto 44, 3) := dk_167 0 44 (dk_at dksX6_balance_1 4 rfl rfl)
theorem dX6_balance_30 : decode cX6_balance 30 = .ok (.aload_n 0, 1) := dk_42 (dk_at dksX6_balance_1 7 rfl rfl)
theorem dX6_balance_31 : decode cX6_balance 31 = .ok (.getfield 3, 3) := dk_180 0 3 (dk_at dksX6_balance_1 8 rfl rfl)
theorem dX6_balance_34 : decode cX6_balance 34 = .ok (.iload_n 3, 1) := dk_29 (dk_at dksX6_balance_1 11 rfl rfl)
theorem dX6_balance_35 : decode cX6_balance 35 = .ok (.invokevirtual 44, 3) := dk_182 0 44 (dk_at dksX6_balance_1 12 rfl rfl)
theorem dX6_balance_38 : decode cX6_balance 38 = .ok (.getfield 94, 3) := dk_180 0 94 (dk_at dksX6_balance_1 15 rfl rfl)
theorem dX6_balance_41 : decode cX6_balance 41 = .ok (.iload_n 1, 1) := dk_27 (dk_at dksX6_balance_1 18 rfl rfl)
theorem dX6_balance_42 : decode cX6_balance 42 = .ok (.if_icmp .ne 17, 3) := dk_160 0 17 (dk_at dksX6_balance_1 19 rfl rfl)
theorem dX6_balance_45 : decode cX6_balance 45 = .ok (.aload_n 0, 1) := dk_42 (dk_at dksX6_balance_1 22 rfl rfl)
theorem dX6_balance_46 : decode cX6_balance 46 = .ok (.getfield 3, 3) := dk_180 0 3 (dk_at dksX6_balance_2 0 rfl rfl)
theorem dX6_balance_49 : decode cX6_balance 49 = .ok (.iload_n 3, 1) := dk_29 (dk_at dksX6_balance_2 3 rfl rfl)
theorem dX6_balance_50 : decode cX6_balance 50 = .ok (.invokevirtual 84, 3) := dk_182 0 84 (dk_at dksX6_balance_2 4 rfl rfl)
theorem dX6_balance_53 : decode cX6_balance 53 = .ok (.getfield 142, 3) := dk_180 0 142 (dk_at dksX6_balance_2 7 rfl rfl)
theorem dX6_balance_56 : decode cX6_balance 56 = .ok (.goto 15, 3) := dk_167 0 15 (dk_at dksX6_balance_2 10 rfl rfl)
theorem dX6_balance_59 : decode cX6_balance 59 = .ok (.aload_n 0, 1) := dk_42 (dk_at dksX6_balance_2 13 rfl rfl)
theorem dX6_balance_60 : decode cX6_balance 60 = .ok (.getfield 3, 3) := dk_180 0 3 (dk_at dksX6_balance_2 14 rfl rfl)
theorem dX6_balance_63 : decode cX6_balance 63 = .ok (.iload_n 3, 1) := dk_29 (dk_at dksX6_balance_2 17 rfl rfl)
theorem dX6_balance_64 : decode cX6_balance 64 = .ok (.invokevirtual 84, 3) := dk_182 0 84 (dk_at dksX6_balance_2 18 rfl rfl)
theorem dX6_balance_67 : decode cX6_balance 67 = .ok (.getfield 142, 3) := dk_180 0 142 (dk_at dksX6_balance_2 21 rfl rfl)
theorem dX6_balance_70 : decode cX6_balance 70 = .ok (.ineg, 1) := dk_116 (dk_at dksX6_balance_3 0 rfl rfl)
theorem dX6_balance_71 : decode cX6_balance 71 = .ok (.iadd, 1) := dk_96 (dk_at dksX6_balance_3 1 rfl rfl)
theorem dX6_balance_72 : decode cX6_balance 72 = .ok (.istore_n 2, 1) := dk_61 (dk_at dksX6_balance_3 2 rfl rfl)
theorem dX6_balance_73 : decode cX6_balance 73 = .ok (.iinc 3 1, 3) := dk_132 3 1 (dk_at dksX6_balance_3 3 rfl rfl)
theorem dX6_balance_76 : decode cX6_balance 76 = .ok (.goto (-72), 3) := dk_167 255 184 (dk_at dksX6_balance_3 6 rfl rfl)
theorem dX6_balance_79 : decode cX6_balance 79 = .ok (.iload_n 2, 1) := dk_28 (dk_at dksX6_balance_3 9 rfl rfl)
theorem dX6_balance_80 : decode cX6_balance 80 = .ok (.ireturn, 1) := dk_172 (dk_at dksX6_balance_3 10 rfl rfl)
abbrev cX6_value : ByteArray := prog_20_method_13_code
def yX6_value : MethodName := ⟨RX6, "value", "(I)I"⟩
def dkwX6_value_3 : List UInt8 := [44, 21, 4, 27, 182, 0, 153, 184, 0, 104, 62, 132, 4, 1, 167, 255, 231, 29, 172]
abbrev dktX6_value_3 : List UInt8 := dkwX6_value_3 ++ []
def dkwX6_value_2 : List UInt8 := [180, 0, 34, 182, 0, 145, 172, 18, 152, 62, 3, 54, 4, 21, 4, 44, 180, 0, 116, 162, 0, 22, 29, 42]
abbrev dktX6_value_2 : List UInt8 := dkwX6_value_2 ++ dktX6_value_3
def dkwX6_value_1 : List UInt8 := [180, 0, 148, 27, 50, 77, 42, 42, 180, 0, 34, 44, 182, 0, 138, 44, 180, 0, 116, 154, 0, 12, 42, 42]
abbrev dktX6_value_1 : List UInt8 := dkwX6_value_1 ++ dktX6_value_2
def dkwX6_value_0 : List UInt8 := [27, 153, 0, 10, 42, 180, 0, 81, 158, 0, 12, 42, 42, 180, 0, 34, 182, 0, 145, 172, 42, 180, 0, 3]
abbrev dktX6_value_0 : List UInt8 := dkwX6_value_0 ++ dktX6_value_1
theorem dksX6_value_0 : cX6_value.data.toList.drop 0 = dktX6_value_0 := by decide +kernel
theorem dksX6_value_1 : cX6_value.data.toList.drop 24 = dktX6_value_1 := dk_seg dksX6_value_0 24 rfl rfl
theorem dksX6_value_2 : cX6_value.data.toList.drop 48 = dktX6_value_2 := dk_seg dksX6_value_1 24 rfl rfl
theorem dksX6_value_3 : cX6_value.data.toList.drop 72 = dktX6_value_3 := dk_seg dksX6_value_2 24 rfl rfl
theorem dX6_value_0 : decode cX6_value 0 = .ok (.iload_n 1, 1) := dk_27 (dk_at dksX6_value_0 0 rfl rfl)
theorem dX6_value_1 : decode cX6_value 1 = .ok (.ifCond .eq 10, 3) := dk_153 0 10 (dk_at dksX6_value_0 1 rfl rfl)
theorem dX6_value_4 : decode cX6_value 4 = .ok (.aload_n 0, 1) := dk_42 (dk_at dksX6_value_0 4 rfl rfl)
theorem dX6_value_5 : decode cX6_value 5 = .ok (.getfield 81, 3) := dk_180 0 81 (dk_at dksX6_value_0 5 rfl rfl)
theorem dX6_value_8 : decode cX6_value 8 = .ok (.ifCond .le 12, 3) := dk_158 0 12 (dk_at dksX6_value_0 8 rfl rfl)
theorem dX6_value_11 : decode cX6_value 11 = .ok (.aload_n 0, 1) := dk_42 (dk_at dksX6_value_0 11 rfl rfl)
theorem dX6_value_12 : decode cX6_value 12 = .ok (.aload_n 0, 1) := dk_42 (dk_at dksX6_value_0 12 rfl rfl)
theorem dX6_value_13 : decode cX6_value 13 = .ok (.getfield 34, 3) := dk_180 0 34 (dk_at dksX6_value_0 13 rfl rfl)
theorem dX6_value_16 : decode cX6_value 16 = .ok (.invokevirtual 145, 3) := dk_182 0 145 (dk_at dksX6_value_0 16 rfl rfl)
theorem dX6_value_19 : decode cX6_value 19 = .ok (.ireturn, 1) := dk_172 (dk_at dksX6_value_0 19 rfl rfl)
theorem dX6_value_20 : decode cX6_value 20 = .ok (.aload_n 0, 1) := dk_42 (dk_at dksX6_value_0 20 rfl rfl)
theorem dX6_value_21 : decode cX6_value 21 = .ok (.getfield 3, 3) := dk_180 0 3 (dk_at dksX6_value_0 21 rfl rfl)
theorem dX6_value_24 : decode cX6_value 24 = .ok (.getfield 148, 3) := dk_180 0 148 (dk_at dksX6_value_1 0 rfl rfl)
theorem dX6_value_27 : decode cX6_value 27 = .ok (.iload_n 1, 1) := dk_27 (dk_at dksX6_value_1 3 rfl rfl)
theorem dX6_value_28 : decode cX6_value 28 = .ok (.aaload, 1) := dk_50 (dk_at dksX6_value_1 4 rfl rfl)
theorem dX6_value_29 : decode cX6_value 29 = .ok (.astore_n 2, 1) := dk_77 (dk_at dksX6_value_1 5 rfl rfl)
theorem dX6_value_30 : decode cX6_value 30 = .ok (.aload_n 0, 1) := dk_42 (dk_at dksX6_value_1 6 rfl rfl)
theorem dX6_value_31 : decode cX6_value 31 = .ok (.aload_n 0, 1) := dk_42 (dk_at dksX6_value_1 7 rfl rfl)
theorem dX6_value_32 : decode cX6_value 32 = .ok (.getfield 34, 3) := dk_180 0 34 (dk_at dksX6_value_1 8 rfl rfl)
theorem dX6_value_35 : decode cX6_value 35 = .ok (.aload_n 2, 1) := dk_44 (dk_at dksX6_value_1 11 rfl rfl)
theorem dX6_value_36 : decode cX6_value 36 = .ok (.invokevirtual 138, 3) := dk_182 0 138 (dk_at dksX6_value_1 12 rfl rfl)
theorem dX6_value_39 : decode cX6_value 39 = .ok (.aload_n 2, 1) := dk_44 (dk_at dksX6_value_1 15 rfl rfl)
theorem dX6_value_40 : decode cX6_value 40 = .ok (.getfield 116, 3) := dk_180 0 116 (dk_at dksX6_value_1 16 rfl rfl)
theorem dX6_value_43 : decode cX6_value 43 = .ok (.ifCond .ne 12, 3) := dk_154 0 12 (dk_at dksX6_value_1 19 rfl rfl)
theorem dX6_value_46 : decode cX6_value 46 = .ok (.aload_n 0, 1) := dk_42 (dk_at dksX6_value_1 22 rfl rfl)
theorem dX6_value_47 : decode cX6_value 47 = .ok (.aload_n 0, 1) := dk_42 (dk_at dksX6_value_1 23 rfl rfl)
theorem dX6_value_48 : decode cX6_value 48 = .ok (.getfield 34, 3) := dk_180 0 34 (dk_at dksX6_value_2 0 rfl rfl)
theorem dX6_value_51 : decode cX6_value 51 = .ok (.invokevirtual 145, 3) := dk_182 0 145 (dk_at dksX6_value_2 3 rfl rfl)
theorem dX6_value_54 : decode cX6_value 54 = .ok (.ireturn, 1) := dk_172 (dk_at dksX6_value_2 6 rfl rfl)
theorem dX6_value_55 : decode cX6_value 55 = .ok (.ldc 152, 2) := dk_18 152 (dk_at dksX6_value_2 7 rfl rfl)
theorem dX6_value_57 : decode cX6_value 57 = .ok (.istore_n 3, 1) := dk_62 (dk_at dksX6_value_2 9 rfl rfl)
theorem dX6_value_58 : decode cX6_value 58 = .ok (.iconst 0, 1) := dk_3 (dk_at dksX6_value_2 10 rfl rfl)
theorem dX6_value_59 : decode cX6_value 59 = .ok (.istore 4, 2) := dk_54 4 (dk_at dksX6_value_2 11 rfl rfl)
theorem dX6_value_61 : decode cX6_value 61 = .ok (.iload 4, 2) := dk_21 4 (dk_at dksX6_value_2 13 rfl rfl)
theorem dX6_value_63 : decode cX6_value 63 = .ok (.aload_n 2, 1) := dk_44 (dk_at dksX6_value_2 15 rfl rfl)
theorem dX6_value_64 : decode cX6_value 64 = .ok (.getfield 116, 3) := dk_180 0 116 (dk_at dksX6_value_2 16 rfl rfl)
theorem dX6_value_67 : decode cX6_value 67 = .ok (.if_icmp .ge 22, 3) := dk_162 0 22 (dk_at dksX6_value_2 19 rfl rfl)
theorem dX6_value_70 : decode cX6_value 70 = .ok (.iload_n 3, 1) := dk_29 (dk_at dksX6_value_2 22 rfl rfl)
theorem dX6_value_71 : decode cX6_value 71 = .ok (.aload_n 0, 1) := dk_42 (dk_at dksX6_value_2 23 rfl rfl)
theorem dX6_value_72 : decode cX6_value 72 = .ok (.aload_n 2, 1) := dk_44 (dk_at dksX6_value_3 0 rfl rfl)
theorem dX6_value_73 : decode cX6_value 73 = .ok (.iload 4, 2) := dk_21 4 (dk_at dksX6_value_3 1 rfl rfl)
theorem dX6_value_75 : decode cX6_value 75 = .ok (.iload_n 1, 1) := dk_27 (dk_at dksX6_value_3 3 rfl rfl)
theorem dX6_value_76 : decode cX6_value 76 = .ok (.invokevirtual 153, 3) := dk_182 0 153 (dk_at dksX6_value_3 4 rfl rfl)
theorem dX6_value_79 : decode cX6_value 79 = .ok (.invokestatic 104, 3) := dk_184 0 104 (dk_at dksX6_value_3 7 rfl rfl)
theorem dX6_value_82 : decode cX6_value 82 = .ok (.istore_n 3, 1) := dk_62 (dk_at dksX6_value_3 10 rfl rfl)
theorem dX6_value_83 : decode cX6_value 83 = .ok (.iinc 4 1, 3) := dk_132 4 1 (dk_at dksX6_value_3 11 rfl rfl)
theorem dX6_value_86 : decode cX6_value 86 = .ok (.goto (-25), 3) := dk_167 255 231 (dk_at dksX6_value_3 14 rfl rfl)
theorem dX6_value_89 : decode cX6_value 89 = .ok (.iload_n 3, 1) := dk_29 (dk_at dksX6_value_3 17 rfl rfl)
theorem dX6_value_90 : decode cX6_value 90 = .ok (.ireturn, 1) := dk_172 (dk_at dksX6_value_3 18 rfl rfl)
abbrev cX6_behind : ByteArray := prog_20_method_14_code
def yX6_behind : MethodName := ⟨RX6, "behind", "(LGardenChess$Moves;II)I"⟩
def dkwX6_behind_2 : List UInt8 := [182, 0, 167, 21, 7, 172]
abbrev dktX6_behind_2 : List UInt8 := dkwX6_behind_2 ++ []
def dkwX6_behind_1 : List UInt8 := [28, 46, 182, 0, 161, 54, 6, 42, 29, 4, 100, 182, 0, 164, 116, 54, 7, 42, 21, 4, 21, 5, 21, 6]
abbrev dktX6_behind_1 : List UInt8 := dkwX6_behind_1 ++ dktX6_behind_2
def dkwX6_behind_0 : List UInt8 := [43, 180, 0, 157, 28, 46, 54, 4, 42, 180, 0, 15, 21, 4, 46, 54, 5, 42, 21, 4, 43, 180, 0, 160]
abbrev dktX6_behind_0 : List UInt8 := dkwX6_behind_0 ++ dktX6_behind_1
theorem dksX6_behind_0 : cX6_behind.data.toList.drop 0 = dktX6_behind_0 := by decide +kernel
theorem dksX6_behind_1 : cX6_behind.data.toList.drop 24 = dktX6_behind_1 := dk_seg dksX6_behind_0 24 rfl rfl
theorem dksX6_behind_2 : cX6_behind.data.toList.drop 48 = dktX6_behind_2 := dk_seg dksX6_behind_1 24 rfl rfl
theorem dX6_behind_0 : decode cX6_behind 0 = .ok (.aload_n 1, 1) := dk_43 (dk_at dksX6_behind_0 0 rfl rfl)
theorem dX6_behind_1 : decode cX6_behind 1 = .ok (.getfield 157, 3) := dk_180 0 157 (dk_at dksX6_behind_0 1 rfl rfl)
theorem dX6_behind_4 : decode cX6_behind 4 = .ok (.iload_n 2, 1) := dk_28 (dk_at dksX6_behind_0 4 rfl rfl)
theorem dX6_behind_5 : decode cX6_behind 5 = .ok (.iaload, 1) := dk_46 (dk_at dksX6_behind_0 5 rfl rfl)
theorem dX6_behind_6 : decode cX6_behind 6 = .ok (.istore 4, 2) := dk_54 4 (dk_at dksX6_behind_0 6 rfl rfl)
theorem dX6_behind_8 : decode cX6_behind 8 = .ok (.aload_n 0, 1) := dk_42 (dk_at dksX6_behind_0 8 rfl rfl)
theorem dX6_behind_9 : decode cX6_behind 9 = .ok (.getfield 15, 3) := dk_180 0 15 (dk_at dksX6_behind_0 9 rfl rfl)
theorem dX6_behind_12 : decode cX6_behind 12 = .ok (.iload 4, 2) := dk_21 4 (dk_at dksX6_behind_0 12 rfl rfl)
theorem dX6_behind_14 : decode cX6_behind 14 = .ok (.iaload, 1) := dk_46 (dk_at dksX6_behind_0 14 rfl rfl)
theorem dX6_behind_15 : decode cX6_behind 15 = .ok (.istore 5, 2) := dk_54 5 (dk_at dksX6_behind_0 15 rfl rfl)
theorem dX6_behind_17 : decode cX6_behind 17 = .ok (.aload_n 0, 1) := dk_42 (dk_at dksX6_behind_0 17 rfl rfl)
theorem dX6_behind_18 : decode cX6_behind 18 = .ok (.iload 4, 2) := dk_21 4 (dk_at dksX6_behind_0 18 rfl rfl)
theorem dX6_behind_20 : decode cX6_behind 20 = .ok (.aload_n 1, 1) := dk_43 (dk_at dksX6_behind_0 20 rfl rfl)
theorem dX6_behind_21 : decode cX6_behind 21 = .ok (.getfield 160, 3) := dk_180 0 160 (dk_at dksX6_behind_0 21 rfl rfl)
theorem dX6_behind_24 : decode cX6_behind 24 = .ok (.iload_n 2, 1) := dk_28 (dk_at dksX6_behind_1 0 rfl rfl)
theorem dX6_behind_25 : decode cX6_behind 25 = .ok (.iaload, 1) := dk_46 (dk_at dksX6_behind_1 1 rfl rfl)
theorem dX6_behind_26 : decode cX6_behind 26 = .ok (.invokevirtual 161, 3) := dk_182 0 161 (dk_at dksX6_behind_1 2 rfl rfl)
theorem dX6_behind_29 : decode cX6_behind 29 = .ok (.istore 6, 2) := dk_54 6 (dk_at dksX6_behind_1 5 rfl rfl)
theorem dX6_behind_31 : decode cX6_behind 31 = .ok (.aload_n 0, 1) := dk_42 (dk_at dksX6_behind_1 7 rfl rfl)
theorem dX6_behind_32 : decode cX6_behind 32 = .ok (.iload_n 3, 1) := dk_29 (dk_at dksX6_behind_1 8 rfl rfl)
theorem dX6_behind_33 : decode cX6_behind 33 = .ok (.iconst 1, 1) := dk_4 (dk_at dksX6_behind_1 9 rfl rfl)
theorem dX6_behind_34 : decode cX6_behind 34 = .ok (.isub, 1) := dk_100 (dk_at dksX6_behind_1 10 rfl rfl)
theorem dX6_behind_35 : decode cX6_behind 35 = .ok (.invokevirtual 164, 3) := dk_182 0 164 (dk_at dksX6_behind_1 11 rfl rfl)
theorem dX6_behind_38 : decode cX6_behind 38 = .ok (.ineg, 1) := dk_116 (dk_at dksX6_behind_1 14 rfl rfl)
theorem dX6_behind_39 : decode cX6_behind 39 = .ok (.istore 7, 2) := dk_54 7 (dk_at dksX6_behind_1 15 rfl rfl)
theorem dX6_behind_41 : decode cX6_behind 41 = .ok (.aload_n 0, 1) := dk_42 (dk_at dksX6_behind_1 17 rfl rfl)
theorem dX6_behind_42 : decode cX6_behind 42 = .ok (.iload 4, 2) := dk_21 4 (dk_at dksX6_behind_1 18 rfl rfl)
theorem dX6_behind_44 : decode cX6_behind 44 = .ok (.iload 5, 2) := dk_21 5 (dk_at dksX6_behind_1 20 rfl rfl)
theorem dX6_behind_46 : decode cX6_behind 46 = .ok (.iload 6, 2) := dk_21 6 (dk_at dksX6_behind_1 22 rfl rfl)
theorem dX6_behind_48 : decode cX6_behind 48 = .ok (.invokevirtual 167, 3) := dk_182 0 167 (dk_at dksX6_behind_2 0 rfl rfl)
theorem dX6_behind_51 : decode cX6_behind 51 = .ok (.iload 7, 2) := dk_21 7 (dk_at dksX6_behind_2 3 rfl rfl)
theorem dX6_behind_53 : decode cX6_behind 53 = .ok (.ireturn, 1) := dk_172 (dk_at dksX6_behind_2 5 rfl rfl)
abbrev cX6_movesBack : ByteArray := prog_20_method_10_code
def yX6_movesBack : MethodName := ⟨RX6, "movesBack", "(III)V"⟩
def dkwX6_movesBack_3 : List UInt8 := [27, 79, 42, 4, 42, 180, 0, 34, 100, 181, 0, 34, 177]
abbrev dktX6_movesBack_3 : List UInt8 := dkwX6_movesBack_3 ++ []
def dkwX6_movesBack_2 : List UInt8 := [153, 0, 7, 4, 167, 0, 4, 3, 100, 181, 0, 81, 42, 180, 0, 15, 27, 28, 79, 42, 180, 0, 19, 28]
abbrev dktX6_movesBack_2 : List UInt8 := dkwX6_movesBack_2 ++ dktX6_movesBack_3
def dkwX6_movesBack_1 : List UInt8 := [180, 0, 15, 29, 21, 4, 79, 42, 89, 180, 0, 81, 42, 180, 0, 3, 29, 182, 0, 84, 180, 0, 88]
abbrev dktX6_movesBack_1 : List UInt8 := dkwX6_movesBack_1 ++ dktX6_movesBack_2
def dkwX6_movesBack_0 : List UInt8 := [42, 180, 0, 15, 27, 46, 54, 4, 42, 180, 0, 19, 21, 4, 29, 79, 29, 2, 159, 0, 39, 42]
abbrev dktX6_movesBack_0 : List UInt8 := dkwX6_movesBack_0 ++ dktX6_movesBack_1
theorem dksX6_movesBack_0 : cX6_movesBack.data.toList.drop 0 = dktX6_movesBack_0 := by decide +kernel
theorem dksX6_movesBack_1 : cX6_movesBack.data.toList.drop 22 = dktX6_movesBack_1 := dk_seg dksX6_movesBack_0 22 rfl rfl
theorem dksX6_movesBack_2 : cX6_movesBack.data.toList.drop 45 = dktX6_movesBack_2 := dk_seg dksX6_movesBack_1 23 rfl rfl
theorem dksX6_movesBack_3 : cX6_movesBack.data.toList.drop 69 = dktX6_movesBack_3 := dk_seg dksX6_movesBack_2 24 rfl rfl
theorem dX6_movesBack_0 : decode cX6_movesBack 0 = .ok (.aload_n 0, 1) := dk_42 (dk_at dksX6_movesBack_0 0 rfl rfl)
theorem dX6_movesBack_1 : decode cX6_movesBack 1 = .ok (.getfield 15, 3) := dk_180 0 15 (dk_at dksX6_movesBack_0 1 rfl rfl)
theorem dX6_movesBack_4 : decode cX6_movesBack 4 = .ok (.iload_n 1, 1) := dk_27 (dk_at dksX6_movesBack_0 4 rfl rfl)
theorem dX6_movesBack_5 : decode cX6_movesBack 5 = .ok (.iaload, 1) := dk_46 (dk_at dksX6_movesBack_0 5 rfl rfl)
theorem dX6_movesBack_6 : decode cX6_movesBack 6 = .ok (.istore 4, 2) := dk_54 4 (dk_at dksX6_movesBack_0 6 rfl rfl)
theorem dX6_movesBack_8 : decode cX6_movesBack 8 = .ok (.aload_n 0, 1) := dk_42 (dk_at dksX6_movesBack_0 8 rfl rfl)
theorem dX6_movesBack_9 : decode cX6_movesBack 9 = .ok (.getfield 19, 3) := dk_180 0 19 (dk_at dksX6_movesBack_0 9 rfl rfl)
theorem dX6_movesBack_12 : decode cX6_movesBack 12 = .ok (.iload 4, 2) := dk_21 4 (dk_at dksX6_movesBack_0 12 rfl rfl)
theorem dX6_movesBack_14 : decode cX6_movesBack 14 = .ok (.iload_n 3, 1) := dk_29 (dk_at dksX6_movesBack_0 14 rfl rfl)
theorem dX6_movesBack_15 : decode cX6_movesBack 15 = .ok (.iastore, 1) := dk_79 (dk_at dksX6_movesBack_0 15 rfl rfl)
theorem dX6_movesBack_16 : decode cX6_movesBack 16 = .ok (.iload_n 3, 1) := dk_29 (dk_at dksX6_movesBack_0 16 rfl rfl)
theorem dX6_movesBack_17 : decode cX6_movesBack 17 = .ok (.iconst (-1), 1) := dk_2 (dk_at dksX6_movesBack_0 17 rfl rfl)
theorem dX6_movesBack_18 : decode cX6_movesBack 18 = .ok (.if_icmp .eq 39, 3) := dk_159 0 39 (dk_at dksX6_movesBack_0 18 rfl rfl)
theorem dX6_movesBack_21 : decode cX6_movesBack 21 = .ok (.aload_n 0, 1) := dk_42 (dk_at dksX6_movesBack_0 21 rfl rfl)
theorem dX6_movesBack_22 : decode cX6_movesBack 22 = .ok (.getfield 15, 3) := dk_180 0 15 (dk_at dksX6_movesBack_1 0 rfl rfl)
theorem dX6_movesBack_25 : decode cX6_movesBack 25 = .ok (.iload_n 3, 1) := dk_29 (dk_at dksX6_movesBack_1 3 rfl rfl)
theorem dX6_movesBack_26 : decode cX6_movesBack 26 = .ok (.iload 4, 2) := dk_21 4 (dk_at dksX6_movesBack_1 4 rfl rfl)
theorem dX6_movesBack_28 : decode cX6_movesBack 28 = .ok (.iastore, 1) := dk_79 (dk_at dksX6_movesBack_1 6 rfl rfl)
theorem dX6_movesBack_29 : decode cX6_movesBack 29 = .ok (.aload_n 0, 1) := dk_42 (dk_at dksX6_movesBack_1 7 rfl rfl)
theorem dX6_movesBack_30 : decode cX6_movesBack 30 = .ok (.dup, 1) := dk_89 (dk_at dksX6_movesBack_1 8 rfl rfl)
theorem dX6_movesBack_31 : decode cX6_movesBack 31 = .ok (.getfield 81, 3) := dk_180 0 81 (dk_at dksX6_movesBack_1 9 rfl rfl)
theorem dX6_movesBack_34 : decode cX6_movesBack 34 = .ok (.aload_n 0, 1) := dk_42 (dk_at dksX6_movesBack_1 12 rfl rfl)
theorem dX6_movesBack_35 : decode cX6_movesBack 35 = .ok (.getfield 3, 3) := dk_180 0 3 (dk_at dksX6_movesBack_1 13 rfl rfl)
theorem dX6_movesBack_38 : decode cX6_movesBack 38 = .ok (.iload_n 3, 1) := dk_29 (dk_at dksX6_movesBack_1 16 rfl rfl)
theorem dX6_movesBack_39 : decode cX6_movesBack 39 = .ok (.invokevirtual 84, 3) := dk_182 0 84 (dk_at dksX6_movesBack_1 17 rfl rfl)
theorem dX6_movesBack_42 : decode cX6_movesBack 42 = .ok (.getfield 88, 3) := dk_180 0 88 (dk_at dksX6_movesBack_1 20 rfl rfl)
theorem dX6_movesBack_45 : decode cX6_movesBack 45 = .ok (.ifCond .eq 7, 3) := dk_153 0 7 (dk_at dksX6_movesBack_2 0 rfl rfl)
theorem dX6_movesBack_48 : decode cX6_movesBack 48 = .ok (.iconst 1, 1) := dk_4 (dk_at dksX6_movesBack_2 3 rfl rfl)
theorem dX6_movesBack_49 : decode cX6_movesBack 49 = .ok (.goto 4, 3) := dk_167 0 4 (dk_at dksX6_movesBack_2 4 rfl rfl)
theorem dX6_movesBack_52 : decode cX6_movesBack 52 = .ok (.iconst 0, 1) := dk_3 (dk_at dksX6_movesBack_2 7 rfl rfl)
theorem dX6_movesBack_53 : decode cX6_movesBack 53 = .ok (.isub, 1) := dk_100 (dk_at dksX6_movesBack_2 8 rfl rfl)
theorem dX6_movesBack_54 : decode cX6_movesBack 54 = .ok (.putfield 81, 3) := dk_181 0 81 (dk_at dksX6_movesBack_2 9 rfl rfl)
theorem dX6_movesBack_57 : decode cX6_movesBack 57 = .ok (.aload_n 0, 1) := dk_42 (dk_at dksX6_movesBack_2 12 rfl rfl)
theorem dX6_movesBack_58 : decode cX6_movesBack 58 = .ok (.getfield 15, 3) := dk_180 0 15 (dk_at dksX6_movesBack_2 13 rfl rfl)
theorem dX6_movesBack_61 : decode cX6_movesBack 61 = .ok (.iload_n 1, 1) := dk_27 (dk_at dksX6_movesBack_2 16 rfl rfl)
theorem dX6_movesBack_62 : decode cX6_movesBack 62 = .ok (.iload_n 2, 1) := dk_28 (dk_at dksX6_movesBack_2 17 rfl rfl)
theorem dX6_movesBack_63 : decode cX6_movesBack 63 = .ok (.iastore, 1) := dk_79 (dk_at dksX6_movesBack_2 18 rfl rfl)
theorem dX6_movesBack_64 : decode cX6_movesBack 64 = .ok (.aload_n 0, 1) := dk_42 (dk_at dksX6_movesBack_2 19 rfl rfl)
theorem dX6_movesBack_65 : decode cX6_movesBack 65 = .ok (.getfield 19, 3) := dk_180 0 19 (dk_at dksX6_movesBack_2 20 rfl rfl)
theorem dX6_movesBack_68 : decode cX6_movesBack 68 = .ok (.iload_n 2, 1) := dk_28 (dk_at dksX6_movesBack_2 23 rfl rfl)
theorem dX6_movesBack_69 : decode cX6_movesBack 69 = .ok (.iload_n 1, 1) := dk_27 (dk_at dksX6_movesBack_3 0 rfl rfl)
theorem dX6_movesBack_70 : decode cX6_movesBack 70 = .ok (.iastore, 1) := dk_79 (dk_at dksX6_movesBack_3 1 rfl rfl)
theorem dX6_movesBack_71 : decode cX6_movesBack 71 = .ok (.aload_n 0, 1) := dk_42 (dk_at dksX6_movesBack_3 2 rfl rfl)
theorem dX6_movesBack_72 : decode cX6_movesBack 72 = .ok (.iconst 1, 1) := dk_4 (dk_at dksX6_movesBack_3 3 rfl rfl)
theorem dX6_movesBack_73 : decode cX6_movesBack 73 = .ok (.aload_n 0, 1) := dk_42 (dk_at dksX6_movesBack_3 4 rfl rfl)
theorem dX6_movesBack_74 : decode cX6_movesBack 74 = .ok (.getfield 34, 3) := dk_180 0 34 (dk_at dksX6_movesBack_3 5 rfl rfl)
theorem dX6_movesBack_77 : decode cX6_movesBack 77 = .ok (.isub, 1) := dk_100 (dk_at dksX6_movesBack_3 8 rfl rfl)
theorem dX6_movesBack_78 : decode cX6_movesBack 78 = .ok (.putfield 34, 3) := dk_181 0 34 (dk_at dksX6_movesBack_3 9 rfl rfl)
theorem dX6_movesBack_81 : decode cX6_movesBack 81 = .ok (.return_, 1) := dk_177 (dk_at dksX6_movesBack_3 12 rfl rfl)
abbrev cX6_best : ByteArray := prog_20_method_15_code
def yX6_best : MethodName := ⟨RX6, "best", "(I)I"⟩
def dkwX6_best_3 : List UInt8 := [62, 132, 5, 1, 167, 255, 217, 29, 172]
abbrev dktX6_best_3 : List UInt8 := dkwX6_best_3 ++ []
def dkwX6_best_2 : List UInt8 := [21, 5, 27, 182, 0, 153, 54, 6, 21, 6, 21, 4, 163, 0, 6, 167, 0, 10, 21, 6, 54, 4, 21, 5]
abbrev dktX6_best_2 : List UInt8 := dkwX6_best_2 ++ dktX6_best_3
def dkwX6_best_1 : List UInt8 := [44, 182, 0, 138, 2, 62, 18, 152, 54, 4, 3, 54, 5, 21, 5, 44, 180, 0, 116, 162, 0, 36, 42, 44]
abbrev dktX6_best_1 : List UInt8 := dkwX6_best_1 ++ dktX6_best_2
def dkwX6_best_0 : List UInt8 := [42, 182, 0, 171, 153, 0, 5, 2, 172, 42, 180, 0, 3, 180, 0, 148, 27, 50, 77, 42, 42, 180, 0, 34]
abbrev dktX6_best_0 : List UInt8 := dkwX6_best_0 ++ dktX6_best_1
theorem dksX6_best_0 : cX6_best.data.toList.drop 0 = dktX6_best_0 := by decide +kernel
theorem dksX6_best_1 : cX6_best.data.toList.drop 24 = dktX6_best_1 := dk_seg dksX6_best_0 24 rfl rfl
theorem dksX6_best_2 : cX6_best.data.toList.drop 48 = dktX6_best_2 := dk_seg dksX6_best_1 24 rfl rfl
theorem dksX6_best_3 : cX6_best.data.toList.drop 72 = dktX6_best_3 := dk_seg dksX6_best_2 24 rfl rfl
theorem dX6_best_0 : decode cX6_best 0 = .ok (.aload_n 0, 1) := dk_42 (dk_at dksX6_best_0 0 rfl rfl)
theorem dX6_best_1 : decode cX6_best 1 = .ok (.invokevirtual 171, 3) := dk_182 0 171 (dk_at dksX6_best_0 1 rfl rfl)
theorem dX6_best_4 : decode cX6_best 4 = .ok (.ifCond .eq 5, 3) := dk_153 0 5 (dk_at dksX6_best_0 4 rfl rfl)
theorem dX6_best_7 : decode cX6_best 7 = .ok (.iconst (-1), 1) := dk_2 (dk_at dksX6_best_0 7 rfl rfl)
theorem dX6_best_8 : decode cX6_best 8 = .ok (.ireturn, 1) := dk_172 (dk_at dksX6_best_0 8 rfl rfl)
theorem dX6_best_9 : decode cX6_best 9 = .ok (.aload_n 0, 1) := dk_42 (dk_at dksX6_best_0 9 rfl rfl)
theorem dX6_best_10 : decode cX6_best 10 = .ok (.getfield 3, 3) := dk_180 0 3 (dk_at dksX6_best_0 10 rfl rfl)
theorem dX6_best_13 : decode cX6_best 13 = .ok (.getfield 148, 3) := dk_180 0 148 (dk_at dksX6_best_0 13 rfl rfl)
theorem dX6_best_16 : decode cX6_best 16 = .ok (.iload_n 1, 1) := dk_27 (dk_at dksX6_best_0 16 rfl rfl)
theorem dX6_best_17 : decode cX6_best 17 = .ok (.aaload, 1) := dk_50 (dk_at dksX6_best_0 17 rfl rfl)
theorem dX6_best_18 : decode cX6_best 18 = .ok (.astore_n 2, 1) := dk_77 (dk_at dksX6_best_0 18 rfl rfl)
theorem dX6_best_19 : decode cX6_best 19 = .ok (.aload_n 0, 1) := dk_42 (dk_at dksX6_best_0 19 rfl rfl)
theorem dX6_best_20 : decode cX6_best 20 = .ok (.aload_n 0, 1) := dk_42 (dk_at dksX6_best_0 20 rfl rfl)
theorem dX6_best_21 : decode cX6_best 21 = .ok (.getfield 34, 3) := dk_180 0 34 (dk_at dksX6_best_0 21 rfl rfl)
theorem dX6_best_24 : decode cX6_best 24 = .ok (.aload_n 2, 1) := dk_44 (dk_at dksX6_best_1 0 rfl rfl)
theorem dX6_best_25 : decode cX6_best 25 = .ok (.invokevirtual 138, 3) := dk_182 0 138 (dk_at dksX6_best_1 1 rfl rfl)
theorem dX6_best_28 : decode cX6_best 28 = .ok (.iconst (-1), 1) := dk_2 (dk_at dksX6_best_1 4 rfl rfl)
theorem dX6_best_29 : decode cX6_best 29 = .ok (.istore_n 3, 1) := dk_62 (dk_at dksX6_best_1 5 rfl rfl)
theorem dX6_best_30 : decode cX6_best 30 = .ok (.ldc 152, 2) := dk_18 152 (dk_at dksX6_best_1 6 rfl rfl)
theorem dX6_best_32 : decode cX6_best 32 = .ok (.istore 4, 2) := dk_54 4 (dk_at dksX6_best_1 8 rfl rfl)
theorem dX6_best_34 : decode cX6_best 34 = .ok (.iconst 0, 1) := dk_3 (dk_at dksX6_best_1 10 rfl rfl)
theorem dX6_best_35 : decode cX6_best 35 = .ok (.istore 5, 2) := dk_54 5 (dk_at dksX6_best_1 11 rfl rfl)
theorem dX6_best_37 : decode cX6_best 37 = .ok (.iload 5, 2) := dk_21 5 (dk_at dksX6_best_1 13 rfl rfl)
theorem dX6_best_39 : decode cX6_best 39 = .ok (.aload_n 2, 1) := dk_44 (dk_at dksX6_best_1 15 rfl rfl)
theorem dX6_best_40 : decode cX6_best 40 = .ok (.getfield 116, 3) := dk_180 0 116 (dk_at dksX6_best_1 16 rfl rfl)
theorem dX6_best_43 : decode cX6_best 43 = .ok (.if_icmp .ge 36, 3) := dk_162 0 36 (dk_at dksX6_best_1 19 rfl rfl)
theorem dX6_best_46 : decode cX6_best 46 = .ok (.aload_n 0, 1) := dk_42 (dk_at dksX6_best_1 22 rfl rfl)
theorem dX6_best_47 : decode cX6_best 47 = .ok (.aload_n 2, 1) := dk_44 (dk_at dksX6_best_1 23 rfl rfl)
theorem dX6_best_48 : decode cX6_best 48 = .ok (.iload 5, 2) := dk_21 5 (dk_at dksX6_best_2 0 rfl rfl)
theorem dX6_best_50 : decode cX6_best 50 = .ok (.iload_n 1, 1) := dk_27 (dk_at dksX6_best_2 2 rfl rfl)
theorem dX6_best_51 : decode cX6_best 51 = .ok (.invokevirtual 153, 3) := dk_182 0 153 (dk_at dksX6_best_2 3 rfl rfl)
theorem dX6_best_54 : decode cX6_best 54 = .ok (.istore 6, 2) := dk_54 6 (dk_at dksX6_best_2 6 rfl rfl)
theorem dX6_best_56 : decode cX6_best 56 = .ok (.iload 6, 2) := dk_21 6 (dk_at dksX6_best_2 8 rfl rfl)
theorem dX6_best_58 : decode cX6_best 58 = .ok (.iload 4, 2) := dk_21 4 (dk_at dksX6_best_2 10 rfl rfl)
theorem dX6_best_60 : decode cX6_best 60 = .ok (.if_icmp .gt 6, 3) := dk_163 0 6 (dk_at dksX6_best_2 12 rfl rfl)
theorem dX6_best_63 : decode cX6_best 63 = .ok (.goto 10, 3) := dk_167 0 10 (dk_at dksX6_best_2 15 rfl rfl)
theorem dX6_best_66 : decode cX6_best 66 = .ok (.iload 6, 2) := dk_21 6 (dk_at dksX6_best_2 18 rfl rfl)
theorem dX6_best_68 : decode cX6_best 68 = .ok (.istore 4, 2) := dk_54 4 (dk_at dksX6_best_2 20 rfl rfl)
theorem dX6_best_70 : decode cX6_best 70 = .ok (.iload 5, 2) := dk_21 5 (dk_at dksX6_best_2 22 rfl rfl)
theorem dX6_best_72 : decode cX6_best 72 = .ok (.istore_n 3, 1) := dk_62 (dk_at dksX6_best_3 0 rfl rfl)
theorem dX6_best_73 : decode cX6_best 73 = .ok (.iinc 5 1, 3) := dk_132 5 1 (dk_at dksX6_best_3 1 rfl rfl)
theorem dX6_best_76 : decode cX6_best 76 = .ok (.goto (-39), 3) := dk_167 255 217 (dk_at dksX6_best_3 4 rfl rfl)
theorem dX6_best_79 : decode cX6_best 79 = .ok (.iload_n 3, 1) := dk_29 (dk_at dksX6_best_3 7 rfl rfl)
theorem dX6_best_80 : decode cX6_best 80 = .ok (.ireturn, 1) := dk_172 (dk_at dksX6_best_3 8 rfl rfl)
abbrev cX6_days : ByteArray := prog_20_method_20_code
def yX6_days : MethodName := ⟨RX6, "days", "(I)LGardenChess$State;"⟩
def dkwX6_days_1 : List UInt8 := [4, 46, 182, 0, 237, 87, 42, 176]
abbrev dktX6_days_1 : List UInt8 := dkwX6_days_1 ++ []
def dkwX6_days_0 : List UInt8 := [42, 27, 42, 180, 0, 3, 180, 0, 59, 180, 0, 234, 3, 46, 42, 180, 0, 3, 180, 0, 59, 180, 0, 234]
abbrev dktX6_days_0 : List UInt8 := dkwX6_days_0 ++ dktX6_days_1
theorem dksX6_days_0 : cX6_days.data.toList.drop 0 = dktX6_days_0 := by decide +kernel
theorem dksX6_days_1 : cX6_days.data.toList.drop 24 = dktX6_days_1 := dk_seg dksX6_days_0 24 rfl rfl
theorem dX6_days_0 : decode cX6_days 0 = .ok (.aload_n 0, 1) := dk_42 (dk_at dksX6_days_0 0 rfl rfl)
theorem dX6_days_1 : decode cX6_days 1 = .ok (.iload_n 1, 1) := dk_27 (dk_at dksX6_days_0 1 rfl rfl)
theorem dX6_days_2 : decode cX6_days 2 = .ok (.aload_n 0, 1) := dk_42 (dk_at dksX6_days_0 2 rfl rfl)
theorem dX6_days_3 : decode cX6_days 3 = .ok (.getfield 3, 3) := dk_180 0 3 (dk_at dksX6_days_0 3 rfl rfl)
theorem dX6_days_6 : decode cX6_days 6 = .ok (.getfield 59, 3) := dk_180 0 59 (dk_at dksX6_days_0 6 rfl rfl)
theorem dX6_days_9 : decode cX6_days 9 = .ok (.getfield 234, 3) := dk_180 0 234 (dk_at dksX6_days_0 9 rfl rfl)
theorem dX6_days_12 : decode cX6_days 12 = .ok (.iconst 0, 1) := dk_3 (dk_at dksX6_days_0 12 rfl rfl)
theorem dX6_days_13 : decode cX6_days 13 = .ok (.iaload, 1) := dk_46 (dk_at dksX6_days_0 13 rfl rfl)
theorem dX6_days_14 : decode cX6_days 14 = .ok (.aload_n 0, 1) := dk_42 (dk_at dksX6_days_0 14 rfl rfl)
theorem dX6_days_15 : decode cX6_days 15 = .ok (.getfield 3, 3) := dk_180 0 3 (dk_at dksX6_days_0 15 rfl rfl)
theorem dX6_days_18 : decode cX6_days 18 = .ok (.getfield 59, 3) := dk_180 0 59 (dk_at dksX6_days_0 18 rfl rfl)
theorem dX6_days_21 : decode cX6_days 21 = .ok (.getfield 234, 3) := dk_180 0 234 (dk_at dksX6_days_0 21 rfl rfl)
theorem dX6_days_24 : decode cX6_days 24 = .ok (.iconst 1, 1) := dk_4 (dk_at dksX6_days_1 0 rfl rfl)
theorem dX6_days_25 : decode cX6_days 25 = .ok (.iaload, 1) := dk_46 (dk_at dksX6_days_1 1 rfl rfl)
theorem dX6_days_26 : decode cX6_days 26 = .ok (.invokevirtual 237, 3) := dk_182 0 237 (dk_at dksX6_days_1 2 rfl rfl)
theorem dX6_days_29 : decode cX6_days 29 = .ok (.pop, 1) := dk_87 (dk_at dksX6_days_1 5 rfl rfl)
theorem dX6_days_30 : decode cX6_days 30 = .ok (.aload_n 0, 1) := dk_42 (dk_at dksX6_days_1 6 rfl rfl)
theorem dX6_days_31 : decode cX6_days 31 = .ok (.areturn, 1) := dk_176 (dk_at dksX6_days_1 7 rfl rfl)
abbrev cX6_days_2 : ByteArray := prog_20_method_19_code
def yX6_days_2 : MethodName := ⟨RX6, "days", "(III)I"⟩
def dkwX6_days_2_2 : List UInt8 := [21, 6, 182, 0, 231, 87, 132, 5, 1, 167, 255, 206, 21, 4, 172]
abbrev dktX6_days_2_2 : List UInt8 := dkwX6_days_2_2 ++ []
def dkwX6_days_2_1 : List UInt8 := [29, 182, 0, 228, 54, 6, 21, 4, 21, 6, 2, 160, 0, 7, 3, 167, 0, 4, 4, 96, 54, 4, 42]
abbrev dktX6_days_2_1 : List UInt8 := dkwX6_days_2_1 ++ dktX6_days_2_2
def dkwX6_days_2_0 : List UInt8 := [3, 54, 4, 3, 54, 5, 21, 5, 27, 162, 0, 50, 42, 42, 180, 0, 34, 154, 0, 7, 28, 167, 0, 4]
abbrev dktX6_days_2_0 : List UInt8 := dkwX6_days_2_0 ++ dktX6_days_2_1
theorem dksX6_days_2_0 : cX6_days_2.data.toList.drop 0 = dktX6_days_2_0 := by decide +kernel
theorem dksX6_days_2_1 : cX6_days_2.data.toList.drop 24 = dktX6_days_2_1 := dk_seg dksX6_days_2_0 24 rfl rfl
theorem dksX6_days_2_2 : cX6_days_2.data.toList.drop 47 = dktX6_days_2_2 := dk_seg dksX6_days_2_1 23 rfl rfl
theorem dX6_days_2_0 : decode cX6_days_2 0 = .ok (.iconst 0, 1) := dk_3 (dk_at dksX6_days_2_0 0 rfl rfl)
theorem dX6_days_2_1 : decode cX6_days_2 1 = .ok (.istore 4, 2) := dk_54 4 (dk_at dksX6_days_2_0 1 rfl rfl)
theorem dX6_days_2_3 : decode cX6_days_2 3 = .ok (.iconst 0, 1) := dk_3 (dk_at dksX6_days_2_0 3 rfl rfl)
theorem dX6_days_2_4 : decode cX6_days_2 4 = .ok (.istore 5, 2) := dk_54 5 (dk_at dksX6_days_2_0 4 rfl rfl)
theorem dX6_days_2_6 : decode cX6_days_2 6 = .ok (.iload 5, 2) := dk_21 5 (dk_at dksX6_days_2_0 6 rfl rfl)
theorem dX6_days_2_8 : decode cX6_days_2 8 = .ok (.iload_n 1, 1) := dk_27 (dk_at dksX6_days_2_0 8 rfl rfl)
theorem dX6_days_2_9 : decode cX6_days_2 9 = .ok (.if_icmp .ge 50, 3) := dk_162 0 50 (dk_at dksX6_days_2_0 9 rfl rfl)
theorem dX6_days_2_12 : decode cX6_days_2 12 = .ok (.aload_n 0, 1) := dk_42 (dk_at dksX6_days_2_0 12 rfl rfl)
theorem dX6_days_2_13 : decode cX6_days_2 13 = .ok (.aload_n 0, 1) := dk_42 (dk_at dksX6_days_2_0 13 rfl rfl)
theorem dX6_days_2_14 : decode cX6_days_2 14 = .ok (.getfield 34, 3) := dk_180 0 34 (dk_at dksX6_days_2_0 14 rfl rfl)
theorem dX6_days_2_17 : decode cX6_days_2 17 = .ok (.ifCond .ne 7, 3) := dk_154 0 7 (dk_at dksX6_days_2_0 17 rfl rfl)
theorem dX6_days_2_20 : decode cX6_days_2 20 = .ok (.iload_n 2, 1) := dk_28 (dk_at dksX6_days_2_0 20 rfl rfl)
theorem dX6_days_2_21 : decode cX6_days_2 21 = .ok (.goto 4, 3) := dk_167 0 4 (dk_at dksX6_days_2_0 21 rfl rfl)
theorem dX6_days_2_24 : decode cX6_days_2 24 = .ok (.iload_n 3, 1) := dk_29 (dk_at dksX6_days_2_1 0 rfl rfl)
theorem dX6_days_2_25 : decode cX6_days_2 25 = .ok (.invokevirtual 228, 3) := dk_182 0 228 (dk_at dksX6_days_2_1 1 rfl rfl)
theorem dX6_days_2_28 : decode cX6_days_2 28 = .ok (.istore 6, 2) := dk_54 6 (dk_at dksX6_days_2_1 4 rfl rfl)
theorem dX6_days_2_30 : decode cX6_days_2 30 = .ok (.iload 4, 2) := dk_21 4 (dk_at dksX6_days_2_1 6 rfl rfl)
theorem dX6_days_2_32 : decode cX6_days_2 32 = .ok (.iload 6, 2) := dk_21 6 (dk_at dksX6_days_2_1 8 rfl rfl)
theorem dX6_days_2_34 : decode cX6_days_2 34 = .ok (.iconst (-1), 1) := dk_2 (dk_at dksX6_days_2_1 10 rfl rfl)
theorem dX6_days_2_35 : decode cX6_days_2 35 = .ok (.if_icmp .ne 7, 3) := dk_160 0 7 (dk_at dksX6_days_2_1 11 rfl rfl)
theorem dX6_days_2_38 : decode cX6_days_2 38 = .ok (.iconst 0, 1) := dk_3 (dk_at dksX6_days_2_1 14 rfl rfl)
theorem dX6_days_2_39 : decode cX6_days_2 39 = .ok (.goto 4, 3) := dk_167 0 4 (dk_at dksX6_days_2_1 15 rfl rfl)
theorem dX6_days_2_42 : decode cX6_days_2 42 = .ok (.iconst 1, 1) := dk_4 (dk_at dksX6_days_2_1 18 rfl rfl)
theorem dX6_days_2_43 : decode cX6_days_2 43 = .ok (.iadd, 1) := dk_96 (dk_at dksX6_days_2_1 19 rfl rfl)
theorem dX6_days_2_44 : decode cX6_days_2 44 = .ok (.istore 4, 2) := dk_54 4 (dk_at dksX6_days_2_1 20 rfl rfl)
theorem dX6_days_2_46 : decode cX6_days_2 46 = .ok (.aload_n 0, 1) := dk_42 (dk_at dksX6_days_2_1 22 rfl rfl)
theorem dX6_days_2_47 : decode cX6_days_2 47 = .ok (.iload 6, 2) := dk_21 6 (dk_at dksX6_days_2_2 0 rfl rfl)
theorem dX6_days_2_49 : decode cX6_days_2 49 = .ok (.invokevirtual 231, 3) := dk_182 0 231 (dk_at dksX6_days_2_2 2 rfl rfl)
theorem dX6_days_2_52 : decode cX6_days_2 52 = .ok (.pop, 1) := dk_87 (dk_at dksX6_days_2_2 5 rfl rfl)
theorem dX6_days_2_53 : decode cX6_days_2 53 = .ok (.iinc 5 1, 3) := dk_132 5 1 (dk_at dksX6_days_2_2 6 rfl rfl)
theorem dX6_days_2_56 : decode cX6_days_2 56 = .ok (.goto (-50), 3) := dk_167 255 206 (dk_at dksX6_days_2_2 9 rfl rfl)
theorem dX6_days_2_59 : decode cX6_days_2 59 = .ok (.iload 4, 2) := dk_21 4 (dk_at dksX6_days_2_2 12 rfl rfl)
theorem dX6_days_2_61 : decode cX6_days_2 61 = .ok (.ireturn, 1) := dk_172 (dk_at dksX6_days_2_2 14 rfl rfl)
abbrev cX6_passes : ByteArray := prog_20_method_18_code
def yX6_passes : MethodName := ⟨RX6, "passes", "(I)I"⟩
def dkwX6_passes_9 : List UInt8 := [79, 132, 3, 1, 167, 255, 173, 28, 172]
abbrev dktX6_passes_9 : List UInt8 := dkwX6_passes_9 ++ []
def dkwX6_passes_8 : List UInt8 := [180, 0, 218, 182, 0, 219, 100, 184, 0, 104, 42, 180, 0, 3, 180, 0, 59, 180, 0, 222, 96, 184, 0, 225]
abbrev dktX6_passes_8 : List UInt8 := dkwX6_passes_8 ++ dktX6_passes_9
def dkwX6_passes_7 : List UInt8 := [42, 180, 0, 22, 29, 17, 3, 231, 3, 42, 180, 0, 22, 29, 46, 42, 25, 4, 180, 0, 217, 25, 4]
abbrev dktX6_passes_7 : List UInt8 := dkwX6_passes_7 ++ dktX6_passes_8
def dkwX6_passes_6 : List UInt8 := [162, 0, 78, 42, 180, 0, 3, 180, 0, 59, 180, 0, 63, 29, 185, 0, 68, 2, 0, 192, 0, 74, 58, 4]
abbrev dktX6_passes_6 : List UInt8 := dkwX6_passes_6 ++ dktX6_passes_7
def dkwX6_passes_5 : List UInt8 := [181, 0, 34, 42, 89, 180, 0, 30, 4, 96, 181, 0, 30, 3, 62, 29, 42, 180, 0, 3, 182, 0, 56]
abbrev dktX6_passes_5 : List UInt8 := dkwX6_passes_5 ++ dktX6_passes_6
def dkwX6_passes_4 : List UInt8 := [182, 0, 211, 181, 0, 195, 42, 29, 28, 182, 0, 214, 167, 0, 13, 42, 4, 42, 180, 0, 34, 100]
abbrev dktX6_passes_4 : List UInt8 := dkwX6_passes_4 ++ dktX6_passes_5
def dkwX6_passes_3 : List UInt8 := [2, 160, 0, 7, 3, 167, 0, 14, 42, 180, 0, 3, 28, 182, 0, 84, 180, 0, 142, 181, 0, 182, 42, 42]
abbrev dktX6_passes_3 : List UInt8 := dkwX6_passes_3 ++ dktX6_passes_4
def dkwX6_passes_2 : List UInt8 := [180, 0, 134, 180, 0, 160, 27, 46, 182, 0, 161, 61, 42, 42, 180, 0, 15, 29, 46, 181, 0, 175, 42, 28]
abbrev dktX6_passes_2 : List UInt8 := dkwX6_passes_2 ++ dktX6_passes_3
def dkwX6_passes_1 : List UInt8 := [182, 0, 138, 42, 180, 0, 3, 180, 0, 134, 180, 0, 157, 27, 46, 62, 42, 29, 42, 180, 0, 3]
abbrev dktX6_passes_1 : List UInt8 := dkwX6_passes_1 ++ dktX6_passes_2
def dkwX6_passes_0 : List UInt8 := [2, 61, 42, 2, 181, 0, 175, 27, 2, 159, 0, 100, 42, 42, 180, 0, 34, 42, 180, 0, 3, 180, 0, 134]
abbrev dktX6_passes_0 : List UInt8 := dkwX6_passes_0 ++ dktX6_passes_1
theorem dksX6_passes_0 : cX6_passes.data.toList.drop 0 = dktX6_passes_0 := by decide +kernel
theorem dksX6_passes_1 : cX6_passes.data.toList.drop 24 = dktX6_passes_1 := dk_seg dksX6_passes_0 24 rfl rfl
theorem dksX6_passes_2 : cX6_passes.data.toList.drop 46 = dktX6_passes_2 := dk_seg dksX6_passes_1 22 rfl rfl
theorem dksX6_passes_3 : cX6_passes.data.toList.drop 70 = dktX6_passes_3 := dk_seg dksX6_passes_2 24 rfl rfl
theorem dksX6_passes_4 : cX6_passes.data.toList.drop 94 = dktX6_passes_4 := dk_seg dksX6_passes_3 24 rfl rfl
theorem dksX6_passes_5 : cX6_passes.data.toList.drop 116 = dktX6_passes_5 := dk_seg dksX6_passes_4 22 rfl rfl
theorem dksX6_passes_6 : cX6_passes.data.toList.drop 139 = dktX6_passes_6 := dk_seg dksX6_passes_5 23 rfl rfl
theorem dksX6_passes_7 : cX6_passes.data.toList.drop 163 = dktX6_passes_7 := dk_seg dksX6_passes_6 24 rfl rfl
theorem dksX6_passes_8 : cX6_passes.data.toList.drop 186 = dktX6_passes_8 := dk_seg dksX6_passes_7 23 rfl rfl
theorem dksX6_passes_9 : cX6_passes.data.toList.drop 210 = dktX6_passes_9 := dk_seg dksX6_passes_8 24 rfl rfl
theorem dX6_passes_0 : decode cX6_passes 0 = .ok (.iconst (-1), 1) := dk_2 (dk_at dksX6_passes_0 0 rfl rfl)
theorem dX6_passes_1 : decode cX6_passes 1 = .ok (.istore_n 2, 1) := dk_61 (dk_at dksX6_passes_0 1 rfl rfl)
theorem dX6_passes_2 : decode cX6_passes 2 = .ok (.aload_n 0, 1) := dk_42 (dk_at dksX6_passes_0 2 rfl rfl)
theorem dX6_passes_3 : decode cX6_passes 3 = .ok (.iconst (-1), 1) := dk_2 (dk_at dksX6_passes_0 3 rfl rfl)
theorem dX6_passes_4 : decode cX6_passes 4 = .ok (.putfield 175, 3) := dk_181 0 175 (dk_at dksX6_passes_0 4 rfl rfl)
theorem dX6_passes_7 : decode cX6_passes 7 = .ok (.iload_n 1, 1) := dk_27 (dk_at dksX6_passes_0 7 rfl rfl)
theorem dX6_passes_8 : decode cX6_passes 8 = .ok (.iconst (-1), 1) := dk_2 (dk_at dksX6_passes_0 8 rfl rfl)
theorem dX6_passes_9 : decode cX6_passes 9 = .ok (.if_icmp .eq 100, 3) := dk_159 0 100 (dk_at dksX6_passes_0 9 rfl rfl)
theorem dX6_passes_12 : decode cX6_passes 12 = .ok (.aload_n 0, 1) := dk_42 (dk_at dksX6_passes_0 12 rfl rfl)
theorem dX6_passes_13 : decode cX6_passes 13 = .ok (.aload_n 0, 1) := dk_42 (dk_at dksX6_passes_0 13 rfl rfl)
theorem dX6_passes_14 : decode cX6_passes 14 = .ok (.getfield 34, 3) := dk_180 0 34 (dk_at dksX6_passes_0 14 rfl rfl)
theorem dX6_passes_17 : decode cX6_passes 17 = .ok (.aload_n 0, 1) := dk_42 (dk_at dksX6_passes_0 17 rfl rfl)
theorem dX6_passes_18 : decode cX6_passes 18 = .ok (.getfield 3, 3) := dk_180 0 3 (dk_at dksX6_passes_0 18 rfl rfl)
theorem dX6_passes_21 : decode cX6_passes 21 = .ok (.getfield 134, 3) := dk_180 0 134 (dk_at dksX6_passes_0 21 rfl rfl)
theorem dX6_passes_24 : decode cX6_passes 24 = .ok (.invokevirtual 138, 3) := dk_182 0 138 (dk_at dksX6_passes_1 0 rfl rfl)
theorem dX6_passes_27 : decode cX6_passes 27 = .ok (.aload_n 0, 1) := dk_42 (dk_at dksX6_passes_1 3 rfl rfl)
theorem dX6_passes_28 : decode cX6_passes 28 = .ok (.getfield 3, 3) := dk_180 0 3 (dk_at dksX6_passes_1 4 rfl rfl)
theorem dX6_passes_31 : decode cX6_passes 31 = .ok (.getfield 134, 3) := dk_180 0 134 (dk_at dksX6_passes_1 7 rfl rfl)
theorem dX6_passes_34 : decode cX6_passes 34 = .ok (.getfield 157, 3) := dk_180 0 157 (dk_at dksX6_passes_1 10 rfl rfl)
theorem dX6_passes_37 : decode cX6_passes 37 = .ok (.iload_n 1, 1) := dk_27 (dk_at dksX6_passes_1 13 rfl rfl)
theorem dX6_passes_38 : decode cX6_passes 38 = .ok (.iaload, 1) := dk_46 (dk_at dksX6_passes_1 14 rfl rfl)
theorem dX6_passes_39 : decode cX6_passes 39 = .ok (.istore_n 3, 1) := dk_62 (dk_at dksX6_passes_1 15 rfl rfl)
theorem dX6_passes_40 : decode cX6_passes 40 = .ok (.aload_n 0, 1) := dk_42 (dk_at dksX6_passes_1 16 rfl rfl)
theorem dX6_passes_41 : decode cX6_passes 41 = .ok (.iload_n 3, 1) := dk_29 (dk_at dksX6_passes_1 17 rfl rfl)
theorem dX6_passes_42 : decode cX6_passes 42 = .ok (.aload_n 0, 1) := dk_42 (dk_at dksX6_passes_1 18 rfl rfl)
theorem dX6_passes_43 : decode cX6_passes 43 = .ok (.getfield 3, 3) := dk_180 0 3 (dk_at dksX6_passes_1 19 rfl rfl)
theorem dX6_passes_46 : decode cX6_passes 46 = .ok (.getfield 134, 3) := dk_180 0 134 (dk_at dksX6_passes_2 0 rfl rfl)
theorem dX6_passes_49 : decode cX6_passes 49 = .ok (.getfield 160, 3) := dk_180 0 160 (dk_at dksX6_passes_2 3 rfl rfl)
theorem dX6_passes_52 : decode cX6_passes 52 = .ok (.iload_n 1, 1) := dk_27 (dk_at dksX6_passes_2 6 rfl rfl)
theorem dX6_passes_53 : decode cX6_passes 53 = .ok (.iaload, 1) := dk_46 (dk_at dksX6_passes_2 7 rfl rfl)
theorem dX6_passes_54 : decode cX6_passes 54 = .ok (.invokevirtual 161, 3) := dk_182 0 161 (dk_at dksX6_passes_2 8 rfl rfl)
theorem dX6_passes_57 : decode cX6_passes 57 = .ok (.istore_n 2, 1) := dk_61 (dk_at dksX6_passes_2 11 rfl rfl)
theorem dX6_passes_58 : decode cX6_passes 58 = .ok (.aload_n 0, 1) := dk_42 (dk_at dksX6_passes_2 12 rfl rfl)
theorem dX6_passes_59 : decode cX6_passes 59 = .ok (.aload_n 0, 1) := dk_42 (dk_at dksX6_passes_2 13 rfl rfl)
theorem dX6_passes_60 : decode cX6_passes 60 = .ok (.getfield 15, 3) := dk_180 0 15 (dk_at dksX6_passes_2 14 rfl rfl)
theorem dX6_passes_63 : decode cX6_passes 63 = .ok (.iload_n 3, 1) := dk_29 (dk_at dksX6_passes_2 17 rfl rfl)
theorem dX6_passes_64 : decode cX6_passes 64 = .ok (.iaload, 1) := dk_46 (dk_at dksX6_passes_2 18 rfl rfl)
theorem dX6_passes_65 : decode cX6_passes 65 = .ok (.putfield 175, 3) := dk_181 0 175 (dk_at dksX6_passes_2 19 rfl rfl)
theorem dX6_passes_68 : decode cX6_passes 68 = .ok (.aload_n 0, 1) := dk_42 (dk_at dksX6_passes_2 22 rfl rfl)
theorem dX6_passes_69 : decode cX6_passes 69 = .ok (.iload_n 2, 1) := dk_28 (dk_at dksX6_passes_2 23 rfl rfl)
theorem dX6_passes_70 : decode cX6_passes 70 = .ok (.iconst (-1), 1) := dk_2 (dk_at dksX6_passes_3 0 rfl rfl)
theorem dX6_passes_71 : decode cX6_passes 71 = .ok (.if_icmp .ne 7, 3) := dk_160 0 7 (dk_at dksX6_passes_3 1 rfl rfl)
theorem dX6_passes_74 : decode cX6_passes 74 = .ok (.iconst 0, 1) := dk_3 (dk_at dksX6_passes_3 4 rfl rfl)
theorem dX6_passes_75 : decode cX6_passes 75 = .ok (.goto 14, 3) := dk_167 0 14 (dk_at dksX6_passes_3 5 rfl rfl)
theorem dX6_passes_78 : decode cX6_passes 78 = .ok (.aload_n 0, 1) := dk_42 (dk_at dksX6_passes_3 8 rfl rfl)
theorem dX6_passes_79 : decode cX6_passes 79 = .ok (.getfield 3, 3) := dk_180 0 3 (dk_at dksX6_passes_3 9 rfl rfl)
theorem dX6_passes_82 : decode cX6_passes 82 = .ok (.iload_n 2, 1) := dk_28 (dk_at dksX6_passes_3 12 rfl rfl)
theorem dX6_passes_83 : decode cX6_passes 83 = .ok (.invokevirtual 84, 3) := dk_182 0 84 (dk_at dksX6_passes_3 13 rfl rfl)
theorem dX6_passes_86 : decode cX6_passes 86 = .ok (.getfield 142, 3) := dk_180 0 142 (dk_at dksX6_passes_3 16 rfl rfl)
theorem dX6_passes_89 : decode cX6_passes 89 = .ok (.putfield 182, 3) := dk_181 0 182 (dk_at dksX6_passes_3 19 rfl rfl)
theorem dX6_passes_92 : decode cX6_passes 92 = .ok (.aload_n 0, 1) := dk_42 (dk_at dksX6_passes_3 22 rfl rfl)
theorem dX6_passes_93 : decode cX6_passes 93 = .ok (.aload_n 0, 1) := dk_42 (dk_at dksX6_passes_3 23 rfl rfl)
theorem dX6_passes_94 : decode cX6_passes 94 = .ok (.invokevirtual 211, 3) := dk_182 0 211 (dk_at dksX6_passes_4 0 rfl rfl)
theorem dX6_passes_97 : decode cX6_passes 97 = .ok (.putfield 195, 3) := dk_181 0 195 (dk_at dksX6_passes_4 3 rfl rfl)
theorem dX6_passes_100 : decode cX6_passes 100 = .ok (.aload_n 0, 1) := dk_42 (dk_at dksX6_passes_4 6 rfl rfl)
theorem dX6_passes_101 : decode cX6_passes 101 = .ok (.iload_n 3, 1) := dk_29 (dk_at dksX6_passes_4 7 rfl rfl)
theorem dX6_passes_102 : decode cX6_passes 102 = .ok (.iload_n 2, 1) := dk_28 (dk_at dksX6_passes_4 8 rfl rfl)
theorem dX6_passes_103 : decode cX6_passes 103 = .ok (.invokevirtual 214, 3) := dk_182 0 214 (dk_at dksX6_passes_4 9 rfl rfl)
theorem dX6_passes_106 : decode cX6_passes 106 = .ok (.goto 13, 3) := dk_167 0 13 (dk_at dksX6_passes_4 12 rfl rfl)
theorem dX6_passes_109 : decode cX6_passes 109 = .ok (.aload_n 0, 1) := dk_42 (dk_at dksX6_passes_4 15 rfl rfl)
theorem dX6_passes_110 : decode cX6_passes 110 = .ok (.iconst 1, 1) := dk_4 (dk_at dksX6_passes_4 16 rfl rfl)
theorem dX6_passes_111 : decode cX6_passes 111 = .ok (.aload_n 0, 1) := dk_42 (dk_at dksX6_passes_4 17 rfl rfl)
theorem dX6_passes_112 : decode cX6_passes 112 = .ok (.getfield 34, 3) := dk_180 0 34 (dk_at dksX6_passes_4 18 rfl rfl)
theorem dX6_passes_115 : decode cX6_passes 115 = .ok (.isub, 1) := dk_100 (dk_at dksX6_passes_4 21 rfl rfl)
theorem dX6_passes_116 : decode cX6_passes 116 = .ok (.putfield 34, 3) := dk_181 0 34 (dk_at dksX6_passes_5 0 rfl rfl)
theorem dX6_passes_119 : decode cX6_passes 119 = .ok (.aload_n 0, 1) := dk_42 (dk_at dksX6_passes_5 3 rfl rfl)
theorem dX6_passes_120 : decode cX6_passes 120 = .ok (.dup, 1) := dk_89 (dk_at dksX6_passes_5 4 rfl rfl)
theorem dX6_passes_121 : decode cX6_passes 121 = .ok (.getfield 30, 3) := dk_180 0 30 (dk_at dksX6_passes_5 5 rfl rfl)
theorem dX6_passes_124 : decode cX6_passes 124 = .ok (.iconst 1, 1) := dk_4 (dk_at dksX6_passes_5 8 rfl rfl)
theorem dX6_passes_125 : decode cX6_passes 125 = .ok (.iadd, 1) := dk_96 (dk_at dksX6_passes_5 9 rfl rfl)
theorem dX6_passes_126 : decode cX6_passes 126 = .ok (.putfield 30, 3) := dk_181 0 30 (dk_at dksX6_passes_5 10 rfl rfl)
theorem dX6_passes_129 : decode cX6_passes 129 = .ok (.iconst 0, 1) := dk_3 (dk_at dksX6_passes_5 13 rfl rfl)
theorem dX6_passes_130 : decode cX6_passes 130 = .ok (.istore_n 3, 1) := dk_62 (dk_at dksX6_passes_5 14 rfl rfl)
theorem dX6_passes_131 : decode cX6_passes 131 = .ok (.iload_n 3, 1) := dk_29 (dk_at dksX6_passes_5 15 rfl rfl)
theorem dX6_passes_132 : decode cX6_passes 132 = .ok (.aload_n 0, 1) := dk_42 (dk_at dksX6_passes_5 16 rfl rfl)
theorem dX6_passes_133 : decode cX6_passes 133 = .ok (.getfield 3, 3) := dk_180 0 3 (dk_at dksX6_passes_5 17 rfl rfl)
theorem dX6_passes_136 : decode cX6_passes 136 = .ok (.invokevirtual 56, 3) := dk_182 0 56 (dk_at dksX6_passes_5 20 rfl rfl)
theorem dX6_passes_139 : decode cX6_passes 139 = .ok (.if_icmp .ge 78, 3) := dk_162 0 78 (dk_at dksX6_passes_6 0 rfl rfl)
theorem dX6_passes_142 : decode cX6_passes 142 = .ok (.aload_n 0, 1) := dk_42 (dk_at dksX6_passes_6 3 rfl rfl)
theorem dX6_passes_143 : decode cX6_passes 143 = .ok (.getfield 3, 3) := dk_180 0 3 (dk_at dksX6_passes_6 4 rfl rfl)
theorem dX6_passes_146 : decode cX6_passes 146 = .ok (.getfield 59, 3) := dk_180 0 59 (dk_at dksX6_passes_6 7 rfl rfl)
theorem dX6_passes_149 : decode cX6_passes 149 = .ok (.getfield 63, 3) := dk_180 0 63 (dk_at dksX6_passes_6 10 rfl rfl)
theorem dX6_passes_152 : decode cX6_passes 152 = .ok (.iload_n 3, 1) := dk_29 (dk_at dksX6_passes_6 13 rfl rfl)
theorem dX6_passes_153 : decode cX6_passes 153 = .ok (.invokeinterface 68 2, 5) := by decide +kernel
theorem dX6_passes_158 : decode cX6_passes 158 = .ok (.checkcast 74, 3) := dk_192 0 74 (dk_at dksX6_passes_6 19 rfl rfl)
theorem dX6_passes_161 : decode cX6_passes 161 = .ok (.astore 4, 2) := dk_58 4 (dk_at dksX6_passes_6 22 rfl rfl)
theorem dX6_passes_163 : decode cX6_passes 163 = .ok (.aload_n 0, 1) := dk_42 (dk_at dksX6_passes_7 0 rfl rfl)
theorem dX6_passes_164 : decode cX6_passes 164 = .ok (.getfield 22, 3) := dk_180 0 22 (dk_at dksX6_passes_7 1 rfl rfl)
theorem dX6_passes_167 : decode cX6_passes 167 = .ok (.iload_n 3, 1) := dk_29 (dk_at dksX6_passes_7 4 rfl rfl)
theorem dX6_passes_168 : decode cX6_passes 168 = .ok (.sipush 999, 3) := dk_17 3 231 (dk_at dksX6_passes_7 5 rfl rfl)
theorem dX6_passes_171 : decode cX6_passes 171 = .ok (.iconst 0, 1) := dk_3 (dk_at dksX6_passes_7 8 rfl rfl)
theorem dX6_passes_172 : decode cX6_passes 172 = .ok (.aload_n 0, 1) := dk_42 (dk_at dksX6_passes_7 9 rfl rfl)
theorem dX6_passes_173 : decode cX6_passes 173 = .ok (.getfield 22, 3) := dk_180 0 22 (dk_at dksX6_passes_7 10 rfl rfl)
theorem dX6_passes_176 : decode cX6_passes 176 = .ok (.iload_n 3, 1) := dk_29 (dk_at dksX6_passes_7 13 rfl rfl)
theorem dX6_passes_177 : decode cX6_passes 177 = .ok (.iaload, 1) := dk_46 (dk_at dksX6_passes_7 14 rfl rfl)
theorem dX6_passes_178 : decode cX6_passes 178 = .ok (.aload_n 0, 1) := dk_42 (dk_at dksX6_passes_7 15 rfl rfl)
theorem dX6_passes_179 : decode cX6_passes 179 = .ok (.aload 4, 2) := dk_25 4 (dk_at dksX6_passes_7 16 rfl rfl)
theorem dX6_passes_181 : decode cX6_passes 181 = .ok (.getfield 217, 3) := dk_180 0 217 (dk_at dksX6_passes_7 18 rfl rfl)
theorem dX6_passes_184 : decode cX6_passes 184 = .ok (.aload 4, 2) := dk_25 4 (dk_at dksX6_passes_7 21 rfl rfl)
theorem dX6_passes_186 : decode cX6_passes 186 = .ok (.getfield 218, 3) := dk_180 0 218 (dk_at dksX6_passes_8 0 rfl rfl)
theorem dX6_passes_189 : decode cX6_passes 189 = .ok (.invokevirtual 219, 3) := dk_182 0 219 (dk_at dksX6_passes_8 3 rfl rfl)
theorem dX6_passes_192 : decode cX6_passes 192 = .ok (.isub, 1) := dk_100 (dk_at dksX6_passes_8 6 rfl rfl)
theorem dX6_passes_193 : decode cX6_passes 193 = .ok (.invokestatic 104, 3) := dk_184 0 104 (dk_at dksX6_passes_8 7 rfl rfl)
theorem dX6_passes_196 : decode cX6_passes 196 = .ok (.aload_n 0, 1) := dk_42 (dk_at dksX6_passes_8 10 rfl rfl)
theorem dX6_passes_197 : decode cX6_passes 197 = .ok (.getfield 3, 3) := dk_180 0 3 (dk_at dksX6_passes_8 11 rfl rfl)
theorem dX6_passes_200 : decode cX6_passes 200 = .ok (.getfield 59, 3) := dk_180 0 59 (dk_at dksX6_passes_8 14 rfl rfl)
theorem dX6_passes_203 : decode cX6_passes 203 = .ok (.getfield 222, 3) := dk_180 0 222 (dk_at dksX6_passes_8 17 rfl rfl)
theorem dX6_passes_206 : decode cX6_passes 206 = .ok (.iadd, 1) := dk_96 (dk_at dksX6_passes_8 20 rfl rfl)
theorem dX6_passes_207 : decode cX6_passes 207 = .ok (.invokestatic 225, 3) := dk_184 0 225 (dk_at dksX6_passes_8 21 rfl rfl)
theorem dX6_passes_210 : decode cX6_passes 210 = .ok (.iastore, 1) := dk_79 (dk_at dksX6_passes_9 0 rfl rfl)
theorem dX6_passes_211 : decode cX6_passes 211 = .ok (.iinc 3 1, 3) := dk_132 3 1 (dk_at dksX6_passes_9 1 rfl rfl)
theorem dX6_passes_214 : decode cX6_passes 214 = .ok (.goto (-83), 3) := dk_167 255 173 (dk_at dksX6_passes_9 4 rfl rfl)
theorem dX6_passes_217 : decode cX6_passes 217 = .ok (.iload_n 2, 1) := dk_28 (dk_at dksX6_passes_9 7 rfl rfl)
theorem dX6_passes_218 : decode cX6_passes 218 = .ok (.ireturn, 1) := dk_172 (dk_at dksX6_passes_9 8 rfl rfl)
abbrev cX6_tells : ByteArray := prog_20_method_16_code
def yX6_tells : MethodName := ⟨RX6, "tells", "(II)V"⟩
def dkwX6_tells_7 : List UInt8 := [96, 181, 0, 37, 177]
abbrev dktX6_tells_7 : List UInt8 := dkwX6_tells_7 ++ []
def dkwX6_tells_6 : List UInt8 := [180, 0, 37, 50, 7, 28, 2, 160, 0, 9, 17, 0, 255, 167, 0, 4, 28, 79, 42, 89, 180, 0, 37, 4]
abbrev dktX6_tells_6 : List UInt8 := dkwX6_tells_6 ++ dktX6_tells_7
def dkwX6_tells_5 : List UInt8 := [180, 0, 27, 42, 180, 0, 37, 50, 6, 42, 180, 0, 15, 27, 46, 8, 108, 79, 42, 180, 0, 27, 42]
abbrev dktX6_tells_5 : List UInt8 := dkwX6_tells_5 ++ dktX6_tells_6
def dkwX6_tells_4 : List UInt8 := [27, 79, 42, 180, 0, 27, 42, 180, 0, 37, 50, 5, 42, 180, 0, 15, 27, 46, 8, 112, 79, 42]
abbrev dktX6_tells_4 : List UInt8 := dkwX6_tells_4 ++ dktX6_tells_5
def dkwX6_tells_3 : List UInt8 := [180, 0, 27, 42, 180, 0, 37, 50, 3, 42, 180, 0, 30, 79, 42, 180, 0, 27, 42, 180, 0, 37, 50, 4]
abbrev dktX6_tells_3 : List UInt8 := dkwX6_tells_3 ++ dktX6_tells_4
def dkwX6_tells_2 : List UInt8 := [167, 255, 230, 42, 180, 0, 27, 16, 39, 45, 83, 42, 89, 180, 0, 37, 4, 100, 181, 0, 37, 42]
abbrev dktX6_tells_2 : List UInt8 := dkwX6_tells_2 ++ dktX6_tells_3
def dkwX6_tells_1 : List UInt8 := [162, 0, 25, 42, 180, 0, 27, 21, 4, 4, 100, 42, 180, 0, 27, 21, 4, 50, 83, 132, 4, 1]
abbrev dktX6_tells_1 : List UInt8 := dkwX6_tells_1 ++ dktX6_tells_2
def dkwX6_tells_0 : List UInt8 := [42, 180, 0, 37, 16, 40, 160, 0, 60, 42, 180, 0, 27, 3, 50, 78, 4, 54, 4, 21, 4, 16, 40]
abbrev dktX6_tells_0 : List UInt8 := dkwX6_tells_0 ++ dktX6_tells_1
theorem dksX6_tells_0 : cX6_tells.data.toList.drop 0 = dktX6_tells_0 := by decide +kernel
theorem dksX6_tells_1 : cX6_tells.data.toList.drop 23 = dktX6_tells_1 := dk_seg dksX6_tells_0 23 rfl rfl
theorem dksX6_tells_2 : cX6_tells.data.toList.drop 45 = dktX6_tells_2 := dk_seg dksX6_tells_1 22 rfl rfl
theorem dksX6_tells_3 : cX6_tells.data.toList.drop 67 = dktX6_tells_3 := dk_seg dksX6_tells_2 22 rfl rfl
theorem dksX6_tells_4 : cX6_tells.data.toList.drop 91 = dktX6_tells_4 := dk_seg dksX6_tells_3 24 rfl rfl
theorem dksX6_tells_5 : cX6_tells.data.toList.drop 113 = dktX6_tells_5 := dk_seg dksX6_tells_4 22 rfl rfl
theorem dksX6_tells_6 : cX6_tells.data.toList.drop 136 = dktX6_tells_6 := dk_seg dksX6_tells_5 23 rfl rfl
theorem dksX6_tells_7 : cX6_tells.data.toList.drop 160 = dktX6_tells_7 := dk_seg dksX6_tells_6 24 rfl rfl
theorem dX6_tells_0 : decode cX6_tells 0 = .ok (.aload_n 0, 1) := dk_42 (dk_at dksX6_tells_0 0 rfl rfl)
theorem dX6_tells_1 : decode cX6_tells 1 = .ok (.getfield 37, 3) := dk_180 0 37 (dk_at dksX6_tells_0 1 rfl rfl)
theorem dX6_tells_4 : decode cX6_tells 4 = .ok (.bipush 40, 2) := dk_16 40 (dk_at dksX6_tells_0 4 rfl rfl)
theorem dX6_tells_6 : decode cX6_tells 6 = .ok (.if_icmp .ne 60, 3) := dk_160 0 60 (dk_at dksX6_tells_0 6 rfl rfl)
theorem dX6_tells_9 : decode cX6_tells 9 = .ok (.aload_n 0, 1) := dk_42 (dk_at dksX6_tells_0 9 rfl rfl)
theorem dX6_tells_10 : decode cX6_tells 10 = .ok (.getfield 27, 3) := dk_180 0 27 (dk_at dksX6_tells_0 10 rfl rfl)
theorem dX6_tells_13 : decode cX6_tells 13 = .ok (.iconst 0, 1) := dk_3 (dk_at dksX6_tells_0 13 rfl rfl)
theorem dX6_tells_14 : decode cX6_tells 14 = .ok (.aaload, 1) := dk_50 (dk_at dksX6_tells_0 14 rfl rfl)
theorem dX6_tells_15 : decode cX6_tells 15 = .ok (.astore_n 3, 1) := dk_78 (dk_at dksX6_tells_0 15 rfl rfl)
theorem dX6_tells_16 : decode cX6_tells 16 = .ok (.iconst 1, 1) := dk_4 (dk_at dksX6_tells_0 16 rfl rfl)
theorem dX6_tells_17 : decode cX6_tells 17 = .ok (.istore 4, 2) := dk_54 4 (dk_at dksX6_tells_0 17 rfl rfl)
theorem dX6_tells_19 : decode cX6_tells 19 = .ok (.iload 4, 2) := dk_21 4 (dk_at dksX6_tells_0 19 rfl rfl)
theorem dX6_tells_21 : decode cX6_tells 21 = .ok (.bipush 40, 2) := dk_16 40 (dk_at dksX6_tells_0 21 rfl rfl)
theorem dX6_tells_23 : decode cX6_tells 23 = .ok (.if_icmp .ge 25, 3) := dk_162 0 25 (dk_at dksX6_tells_1 0 rfl rfl)
theorem dX6_tells_26 : decode cX6_tells 26 = .ok (.aload_n 0, 1) := dk_42 (dk_at dksX6_tells_1 3 rfl rfl)
theorem dX6_tells_27 : decode cX6_tells 27 = .ok (.getfield 27, 3) := dk_180 0 27 (dk_at dksX6_tells_1 4 rfl rfl)
theorem dX6_tells_30 : decode cX6_tells 30 = .ok (.iload 4, 2) := dk_21 4 (dk_at dksX6_tells_1 7 rfl rfl)
theorem dX6_tells_32 : decode cX6_tells 32 = .ok (.iconst 1, 1) := dk_4 (dk_at dksX6_tells_1 9 rfl rfl)
theorem dX6_tells_33 : decode cX6_tells 33 = .ok (.isub, 1) := dk_100 (dk_at dksX6_tells_1 10 rfl rfl)
theorem dX6_tells_34 : decode cX6_tells 34 = .ok (.aload_n 0, 1) := dk_42 (dk_at dksX6_tells_1 11 rfl rfl)
theorem dX6_tells_35 : decode cX6_tells 35 = .ok (.getfield 27, 3) := dk_180 0 27 (dk_at dksX6_tells_1 12 rfl rfl)
theorem dX6_tells_38 : decode cX6_tells 38 = .ok (.iload 4, 2) := dk_21 4 (dk_at dksX6_tells_1 15 rfl rfl)
theorem dX6_tells_40 : decode cX6_tells 40 = .ok (.aaload, 1) := dk_50 (dk_at dksX6_tells_1 17 rfl rfl)
theorem dX6_tells_41 : decode cX6_tells 41 = .ok (.aastore, 1) := dk_83 (dk_at dksX6_tells_1 18 rfl rfl)
theorem dX6_tells_42 : decode cX6_tells 42 = .ok (.iinc 4 1, 3) := dk_132 4 1 (dk_at dksX6_tells_1 19 rfl rfl)
theorem dX6_tells_45 : decode cX6_tells 45 = .ok (.goto (-26), 3) := dk_167 255 230 (dk_at dksX6_tells_2 0 rfl rfl)
theorem dX6_tells_48 : decode cX6_tells 48 = .ok (.aload_n 0, 1) := dk_42 (dk_at dksX6_tells_2 3 rfl rfl)
theorem dX6_tells_49 : decode cX6_tells 49 = .ok (.getfield 27, 3) := dk_180 0 27 (dk_at dksX6_tells_2 4 rfl rfl)
theorem dX6_tells_52 : decode cX6_tells 52 = .ok (.bipush 39, 2) := dk_16 39 (dk_at dksX6_tells_2 7 rfl rfl)
theorem dX6_tells_54 : decode cX6_tells 54 = .ok (.aload_n 3, 1) := dk_45 (dk_at dksX6_tells_2 9 rfl rfl)
theorem dX6_tells_55 : decode cX6_tells 55 = .ok (.aastore, 1) := dk_83 (dk_at dksX6_tells_2 10 rfl rfl)
theorem dX6_tells_56 : decode cX6_tells 56 = .ok (.aload_n 0, 1) := dk_42 (dk_at dksX6_tells_2 11 rfl rfl)
theorem dX6_tells_57 : decode cX6_tells 57 = .ok (.dup, 1) := dk_89 (dk_at dksX6_tells_2 12 rfl rfl)
theorem dX6_tells_58 : decode cX6_tells 58 = .ok (.getfield 37, 3) := dk_180 0 37 (dk_at dksX6_tells_2 13 rfl rfl)
theorem dX6_tells_61 : decode cX6_tells 61 = .ok (.iconst 1, 1) := dk_4 (dk_at dksX6_tells_2 16 rfl rfl)
theorem dX6_tells_62 : decode cX6_tells 62 = .ok (.isub, 1) := dk_100 (dk_at dksX6_tells_2 17 rfl rfl)
theorem dX6_tells_63 : decode cX6_tells 63 = .ok (.putfield 37, 3) := dk_181 0 37 (dk_at dksX6_tells_2 18 rfl rfl)
theorem dX6_tells_66 : decode cX6_tells 66 = .ok (.aload_n 0, 1) := dk_42 (dk_at dksX6_tells_2 21 rfl rfl)
theorem dX6_tells_67 : decode cX6_tells 67 = .ok (.getfield 27, 3) := dk_180 0 27 (dk_at dksX6_tells_3 0 rfl rfl)
theorem dX6_tells_70 : decode cX6_tells 70 = .ok (.aload_n 0, 1) := dk_42 (dk_at dksX6_tells_3 3 rfl rfl)
theorem dX6_tells_71 : decode cX6_tells 71 = .ok (.getfield 37, 3) := dk_180 0 37 (dk_at dksX6_tells_3 4 rfl rfl)
theorem dX6_tells_74 : decode cX6_tells 74 = .ok (.aaload, 1) := dk_50 (dk_at dksX6_tells_3 7 rfl rfl)
theorem dX6_tells_75 : decode cX6_tells 75 = .ok (.iconst 0, 1) := dk_3 (dk_at dksX6_tells_3 8 rfl rfl)
theorem dX6_tells_76 : decode cX6_tells 76 = .ok (.aload_n 0, 1) := dk_42 (dk_at dksX6_tells_3 9 rfl rfl)
theorem dX6_tells_77 : decode cX6_tells 77 = .ok (.getfield 30, 3) := dk_180 0 30 (dk_at dksX6_tells_3 10 rfl rfl)
theorem dX6_tells_80 : decode cX6_tells 80 = .ok (.iastore, 1) := dk_79 (dk_at dksX6_tells_3 13 rfl rfl)
theorem dX6_tells_81 : decode cX6_tells 81 = .ok (.aload_n 0, 1) := dk_42 (dk_at dksX6_tells_3 14 rfl rfl)
theorem dX6_tells_82 : decode cX6_tells 82 = .ok (.getfield 27, 3) := dk_180 0 27 (dk_at dksX6_tells_3 15 rfl rfl)
theorem dX6_tells_85 : decode cX6_tells 85 = .ok (.aload_n 0, 1) := dk_42 (dk_at dksX6_tells_3 18 rfl rfl)
theorem dX6_tells_86 : decode cX6_tells 86 = .ok (.getfield 37, 3) := dk_180 0 37 (dk_at dksX6_tells_3 19 rfl rfl)
theorem dX6_tells_89 : decode cX6_tells 89 = .ok (.aaload, 1) := dk_50 (dk_at dksX6_tells_3 22 rfl rfl)
theorem dX6_tells_90 : decode cX6_tells 90 = .ok (.iconst 1, 1) := dk_4 (dk_at dksX6_tells_3 23 rfl rfl)
theorem dX6_tells_91 : decode cX6_tells 91 = .ok (.iload_n 1, 1) := dk_27 (dk_at dksX6_tells_4 0 rfl rfl)
theorem dX6_tells_92 : decode cX6_tells 92 = .ok (.iastore, 1) := dk_79 (dk_at dksX6_tells_4 1 rfl rfl)
theorem dX6_tells_93 : decode cX6_tells 93 = .ok (.aload_n 0, 1) := dk_42 (dk_at dksX6_tells_4 2 rfl rfl)
theorem dX6_tells_94 : decode cX6_tells 94 = .ok (.getfield 27, 3) := dk_180 0 27 (dk_at dksX6_tells_4 3 rfl rfl)
theorem dX6_tells_97 : decode cX6_tells 97 = .ok (.aload_n 0, 1) := dk_42 (dk_at dksX6_tells_4 6 rfl rfl)
theorem dX6_tells_98 : decode cX6_tells 98 = .ok (.getfield 37, 3) := dk_180 0 37 (dk_at dksX6_tells_4 7 rfl rfl)
theorem dX6_tells_101 : decode cX6_tells 101 = .ok (.aaload, 1) := dk_50 (dk_at dksX6_tells_4 10 rfl rfl)
theorem dX6_tells_102 : decode cX6_tells 102 = .ok (.iconst 2, 1) := dk_5 (dk_at dksX6_tells_4 11 rfl rfl)
theorem dX6_tells_103 : decode cX6_tells 103 = .ok (.aload_n 0, 1) := dk_42 (dk_at dksX6_tells_4 12 rfl rfl)
theorem dX6_tells_104 : decode cX6_tells 104 = .ok (.getfield 15, 3) := dk_180 0 15 (dk_at dksX6_tells_4 13 rfl rfl)
theorem dX6_tells_107 : decode cX6_tells 107 = .ok (.iload_n 1, 1) := dk_27 (dk_at dksX6_tells_4 16 rfl rfl)
theorem dX6_tells_108 : decode cX6_tells 108 = .ok (.iaload, 1) := dk_46 (dk_at dksX6_tells_4 17 rfl rfl)
theorem dX6_tells_109 : decode cX6_tells 109 = .ok (.iconst 5, 1) := dk_8 (dk_at dksX6_tells_4 18 rfl rfl)
theorem dX6_tells_110 : decode cX6_tells 110 = .ok (.irem, 1) := dk_112 (dk_at dksX6_tells_4 19 rfl rfl)
theorem dX6_tells_111 : decode cX6_tells 111 = .ok (.iastore, 1) := dk_79 (dk_at dksX6_tells_4 20 rfl rfl)
theorem dX6_tells_112 : decode cX6_tells 112 = .ok (.aload_n 0, 1) := dk_42 (dk_at dksX6_tells_4 21 rfl rfl)
theorem dX6_tells_113 : decode cX6_tells 113 = .ok (.getfield 27, 3) := dk_180 0 27 (dk_at dksX6_tells_5 0 rfl rfl)
theorem dX6_tells_116 : decode cX6_tells 116 = .ok (.aload_n 0, 1) := dk_42 (dk_at dksX6_tells_5 3 rfl rfl)
theorem dX6_tells_117 : decode cX6_tells 117 = .ok (.getfield 37, 3) := dk_180 0 37 (dk_at dksX6_tells_5 4 rfl rfl)
theorem dX6_tells_120 : decode cX6_tells 120 = .ok (.aaload, 1) := dk_50 (dk_at dksX6_tells_5 7 rfl rfl)
theorem dX6_tells_121 : decode cX6_tells 121 = .ok (.iconst 3, 1) := dk_6 (dk_at dksX6_tells_5 8 rfl rfl)
theorem dX6_tells_122 : decode cX6_tells 122 = .ok (.aload_n 0, 1) := dk_42 (dk_at dksX6_tells_5 9 rfl rfl)
theorem dX6_tells_123 : decode cX6_tells 123 = .ok (.getfield 15, 3) := dk_180 0 15 (dk_at dksX6_tells_5 10 rfl rfl)
theorem dX6_tells_126 : decode cX6_tells 126 = .ok (.iload_n 1, 1) := dk_27 (dk_at dksX6_tells_5 13 rfl rfl)
theorem dX6_tells_127 : decode cX6_tells 127 = .ok (.iaload, 1) := dk_46 (dk_at dksX6_tells_5 14 rfl rfl)
theorem dX6_tells_128 : decode cX6_tells 128 = .ok (.iconst 5, 1) := dk_8 (dk_at dksX6_tells_5 15 rfl rfl)
theorem dX6_tells_129 : decode cX6_tells 129 = .ok (.idiv, 1) := dk_108 (dk_at dksX6_tells_5 16 rfl rfl)
theorem dX6_tells_130 : decode cX6_tells 130 = .ok (.iastore, 1) := dk_79 (dk_at dksX6_tells_5 17 rfl rfl)
theorem dX6_tells_131 : decode cX6_tells 131 = .ok (.aload_n 0, 1) := dk_42 (dk_at dksX6_tells_5 18 rfl rfl)
theorem dX6_tells_132 : decode cX6_tells 132 = .ok (.getfield 27, 3) := dk_180 0 27 (dk_at dksX6_tells_5 19 rfl rfl)
theorem dX6_tells_135 : decode cX6_tells 135 = .ok (.aload_n 0, 1) := dk_42 (dk_at dksX6_tells_5 22 rfl rfl)
theorem dX6_tells_136 : decode cX6_tells 136 = .ok (.getfield 37, 3) := dk_180 0 37 (dk_at dksX6_tells_6 0 rfl rfl)
theorem dX6_tells_139 : decode cX6_tells 139 = .ok (.aaload, 1) := dk_50 (dk_at dksX6_tells_6 3 rfl rfl)
theorem dX6_tells_140 : decode cX6_tells 140 = .ok (.iconst 4, 1) := dk_7 (dk_at dksX6_tells_6 4 rfl rfl)
theorem dX6_tells_141 : decode cX6_tells 141 = .ok (.iload_n 2, 1) := dk_28 (dk_at dksX6_tells_6 5 rfl rfl)
theorem dX6_tells_142 : decode cX6_tells 142 = .ok (.iconst (-1), 1) := dk_2 (dk_at dksX6_tells_6 6 rfl rfl)
theorem dX6_tells_143 : decode cX6_tells 143 = .ok (.if_icmp .ne 9, 3) := dk_160 0 9 (dk_at dksX6_tells_6 7 rfl rfl)
theorem dX6_tells_146 : decode cX6_tells 146 = .ok (.sipush 255, 3) := dk_17 0 255 (dk_at dksX6_tells_6 10 rfl rfl)
theorem dX6_tells_149 : decode cX6_tells 149 = .ok (.goto 4, 3) := dk_167 0 4 (dk_at dksX6_tells_6 13 rfl rfl)
theorem dX6_tells_152 : decode cX6_tells 152 = .ok (.iload_n 2, 1) := dk_28 (dk_at dksX6_tells_6 16 rfl rfl)
theorem dX6_tells_153 : decode cX6_tells 153 = .ok (.iastore, 1) := dk_79 (dk_at dksX6_tells_6 17 rfl rfl)
theorem dX6_tells_154 : decode cX6_tells 154 = .ok (.aload_n 0, 1) := dk_42 (dk_at dksX6_tells_6 18 rfl rfl)
theorem dX6_tells_155 : decode cX6_tells 155 = .ok (.dup, 1) := dk_89 (dk_at dksX6_tells_6 19 rfl rfl)
theorem dX6_tells_156 : decode cX6_tells 156 = .ok (.getfield 37, 3) := dk_180 0 37 (dk_at dksX6_tells_6 20 rfl rfl)
theorem dX6_tells_159 : decode cX6_tells 159 = .ok (.iconst 1, 1) := dk_4 (dk_at dksX6_tells_6 23 rfl rfl)
theorem dX6_tells_160 : decode cX6_tells 160 = .ok (.iadd, 1) := dk_96 (dk_at dksX6_tells_7 0 rfl rfl)
theorem dX6_tells_161 : decode cX6_tells 161 = .ok (.putfield 37, 3) := dk_181 0 37 (dk_at dksX6_tells_7 1 rfl rfl)
theorem dX6_tells_164 : decode cX6_tells 164 = .ok (.return_, 1) := dk_177 (dk_at dksX6_tells_7 4 rfl rfl)
abbrev cX6_harmAt : ByteArray := prog_20_method_17_code
def yX6_harmAt : MethodName := ⟨RX6, "harmAt", "(II)I"⟩
def dkwX6_harmAt_6 : List UInt8 := [136, 172]
abbrev dktX6_harmAt_6 : List UInt8 := dkwX6_harmAt_6 ++ []
def dkwX6_harmAt_5 : List UInt8 := [9, 42, 180, 0, 3, 180, 0, 59, 180, 0, 178, 42, 180, 0, 3, 180, 0, 185, 182, 0, 202, 184, 0, 208]
abbrev dktX6_harmAt_5 : List UInt8 := dkwX6_harmAt_5 ++ dktX6_harmAt_6
def dkwX6_harmAt_4 : List UInt8 := [184, 0, 198, 133, 80, 42, 180, 0, 3, 180, 0, 185, 180, 0, 189, 6, 42, 180, 0, 30, 4, 100, 133, 80]
abbrev dktX6_harmAt_4 : List UInt8 := dkwX6_harmAt_4 ++ dktX6_harmAt_5
def dkwX6_harmAt_3 : List UInt8 := [180, 0, 3, 180, 0, 185, 180, 0, 189, 5, 42, 180, 0, 175, 8, 112, 42, 180, 0, 175, 8, 108, 27, 28]
abbrev dktX6_harmAt_3 : List UInt8 := dkwX6_harmAt_3 ++ dktX6_harmAt_4
def dkwX6_harmAt_2 : List UInt8 := [180, 0, 3, 180, 0, 185, 180, 0, 189, 4, 42, 180, 0, 195, 153, 0, 7, 10, 167, 0, 4, 9, 80, 42]
abbrev dktX6_harmAt_2 : List UInt8 := dkwX6_harmAt_2 ++ dktX6_harmAt_3
def dkwX6_harmAt_1 : List UInt8 := [180, 0, 182, 172, 42, 180, 0, 3, 180, 0, 185, 180, 0, 189, 3, 42, 180, 0, 182, 133, 80, 42]
abbrev dktX6_harmAt_1 : List UInt8 := dkwX6_harmAt_1 ++ dktX6_harmAt_2
def dkwX6_harmAt_0 : List UInt8 := [42, 180, 0, 175, 2, 160, 0, 5, 3, 172, 42, 180, 0, 3, 180, 0, 59, 180, 0, 178, 199, 0, 8, 42]
abbrev dktX6_harmAt_0 : List UInt8 := dkwX6_harmAt_0 ++ dktX6_harmAt_1
theorem dksX6_harmAt_0 : cX6_harmAt.data.toList.drop 0 = dktX6_harmAt_0 := by decide +kernel
theorem dksX6_harmAt_1 : cX6_harmAt.data.toList.drop 24 = dktX6_harmAt_1 := dk_seg dksX6_harmAt_0 24 rfl rfl
theorem dksX6_harmAt_2 : cX6_harmAt.data.toList.drop 46 = dktX6_harmAt_2 := dk_seg dksX6_harmAt_1 22 rfl rfl
theorem dksX6_harmAt_3 : cX6_harmAt.data.toList.drop 70 = dktX6_harmAt_3 := dk_seg dksX6_harmAt_2 24 rfl rfl
theorem dksX6_harmAt_4 : cX6_harmAt.data.toList.drop 94 = dktX6_harmAt_4 := dk_seg dksX6_harmAt_3 24 rfl rfl
theorem dksX6_harmAt_5 : cX6_harmAt.data.toList.drop 118 = dktX6_harmAt_5 := dk_seg dksX6_harmAt_4 24 rfl rfl
theorem dksX6_harmAt_6 : cX6_harmAt.data.toList.drop 142 = dktX6_harmAt_6 := dk_seg dksX6_harmAt_5 24 rfl rfl
theorem dX6_harmAt_0 : decode cX6_harmAt 0 = .ok (.aload_n 0, 1) := dk_42 (dk_at dksX6_harmAt_0 0 rfl rfl)
theorem dX6_harmAt_1 : decode cX6_harmAt 1 = .ok (.getfield 175, 3) := dk_180 0 175 (dk_at dksX6_harmAt_0 1 rfl rfl)
theorem dX6_harmAt_4 : decode cX6_harmAt 4 = .ok (.iconst (-1), 1) := dk_2 (dk_at dksX6_harmAt_0 4 rfl rfl)
theorem dX6_harmAt_5 : decode cX6_harmAt 5 = .ok (.if_icmp .ne 5, 3) := dk_160 0 5 (dk_at dksX6_harmAt_0 5 rfl rfl)
theorem dX6_harmAt_8 : decode cX6_harmAt 8 = .ok (.iconst 0, 1) := dk_3 (dk_at dksX6_harmAt_0 8 rfl rfl)
theorem dX6_harmAt_9 : decode cX6_harmAt 9 = .ok (.ireturn, 1) := dk_172 (dk_at dksX6_harmAt_0 9 rfl rfl)
theorem dX6_harmAt_10 : decode cX6_harmAt 10 = .ok (.aload_n 0, 1) := dk_42 (dk_at dksX6_harmAt_0 10 rfl rfl)
theorem dX6_harmAt_11 : decode cX6_harmAt 11 = .ok (.getfield 3, 3) := dk_180 0 3 (dk_at dksX6_harmAt_0 11 rfl rfl)
theorem dX6_harmAt_14 : decode cX6_harmAt 14 = .ok (.getfield 59, 3) := dk_180 0 59 (dk_at dksX6_harmAt_0 14 rfl rfl)
theorem dX6_harmAt_17 : decode cX6_harmAt 17 = .ok (.getfield 178, 3) := dk_180 0 178 (dk_at dksX6_harmAt_0 17 rfl rfl)
theorem dX6_harmAt_20 : decode cX6_harmAt 20 = .ok (.ifnonnull 8, 3) := dk_199 0 8 (dk_at dksX6_harmAt_0 20 rfl rfl)
theorem dX6_harmAt_23 : decode cX6_harmAt 23 = .ok (.aload_n 0, 1) := dk_42 (dk_at dksX6_harmAt_0 23 rfl rfl)
theorem dX6_harmAt_24 : decode cX6_harmAt 24 = .ok (.getfield 182, 3) := dk_180 0 182 (dk_at dksX6_harmAt_1 0 rfl rfl)
theorem dX6_harmAt_27 : decode cX6_harmAt 27 = .ok (.ireturn, 1) := dk_172 (dk_at dksX6_harmAt_1 3 rfl rfl)
theorem dX6_harmAt_28 : decode cX6_harmAt 28 = .ok (.aload_n 0, 1) := dk_42 (dk_at dksX6_harmAt_1 4 rfl rfl)
theorem dX6_harmAt_29 : decode cX6_harmAt 29 = .ok (.getfield 3, 3) := dk_180 0 3 (dk_at dksX6_harmAt_1 5 rfl rfl)
theorem dX6_harmAt_32 : decode cX6_harmAt 32 = .ok (.getfield 185, 3) := dk_180 0 185 (dk_at dksX6_harmAt_1 8 rfl rfl)
theorem dX6_harmAt_35 : decode cX6_harmAt 35 = .ok (.getfield 189, 3) := dk_180 0 189 (dk_at dksX6_harmAt_1 11 rfl rfl)
theorem dX6_harmAt_38 : decode cX6_harmAt 38 = .ok (.iconst 0, 1) := dk_3 (dk_at dksX6_harmAt_1 14 rfl rfl)
theorem dX6_harmAt_39 : decode cX6_harmAt 39 = .ok (.aload_n 0, 1) := dk_42 (dk_at dksX6_harmAt_1 15 rfl rfl)
theorem dX6_harmAt_40 : decode cX6_harmAt 40 = .ok (.getfield 182, 3) := dk_180 0 182 (dk_at dksX6_harmAt_1 16 rfl rfl)
theorem dX6_harmAt_43 : decode cX6_harmAt 43 = .ok (.i2l, 1) := dk_133 (dk_at dksX6_harmAt_1 19 rfl rfl)
theorem dX6_harmAt_44 : decode cX6_harmAt 44 = .ok (.lastore, 1) := dk_80 (dk_at dksX6_harmAt_1 20 rfl rfl)
theorem dX6_harmAt_45 : decode cX6_harmAt 45 = .ok (.aload_n 0, 1) := dk_42 (dk_at dksX6_harmAt_1 21 rfl rfl)
theorem dX6_harmAt_46 : decode cX6_harmAt 46 = .ok (.getfield 3, 3) := dk_180 0 3 (dk_at dksX6_harmAt_2 0 rfl rfl)
theorem dX6_harmAt_49 : decode cX6_harmAt 49 = .ok (.getfield 185, 3) := dk_180 0 185 (dk_at dksX6_harmAt_2 3 rfl rfl)
theorem dX6_harmAt_52 : decode cX6_harmAt 52 = .ok (.getfield 189, 3) := dk_180 0 189 (dk_at dksX6_harmAt_2 6 rfl rfl)
theorem dX6_harmAt_55 : decode cX6_harmAt 55 = .ok (.iconst 1, 1) := dk_4 (dk_at dksX6_harmAt_2 9 rfl rfl)
theorem dX6_harmAt_56 : decode cX6_harmAt 56 = .ok (.aload_n 0, 1) := dk_42 (dk_at dksX6_harmAt_2 10 rfl rfl)
theorem dX6_harmAt_57 : decode cX6_harmAt 57 = .ok (.getfield 195, 3) := dk_180 0 195 (dk_at dksX6_harmAt_2 11 rfl rfl)
theorem dX6_harmAt_60 : decode cX6_harmAt 60 = .ok (.ifCond .eq 7, 3) := dk_153 0 7 (dk_at dksX6_harmAt_2 14 rfl rfl)
theorem dX6_harmAt_63 : decode cX6_harmAt 63 = .ok (.lconst 1, 1) := dk_10 (dk_at dksX6_harmAt_2 17 rfl rfl)
theorem dX6_harmAt_64 : decode cX6_harmAt 64 = .ok (.goto 4, 3) := dk_167 0 4 (dk_at dksX6_harmAt_2 18 rfl rfl)
theorem dX6_harmAt_67 : decode cX6_harmAt 67 = .ok (.lconst 0, 1) := dk_9 (dk_at dksX6_harmAt_2 21 rfl rfl)
theorem dX6_harmAt_68 : decode cX6_harmAt 68 = .ok (.lastore, 1) := dk_80 (dk_at dksX6_harmAt_2 22 rfl rfl)
theorem dX6_harmAt_69 : decode cX6_harmAt 69 = .ok (.aload_n 0, 1) := dk_42 (dk_at dksX6_harmAt_2 23 rfl rfl)
theorem dX6_harmAt_70 : decode cX6_harmAt 70 = .ok (.getfield 3, 3) := dk_180 0 3 (dk_at dksX6_harmAt_3 0 rfl rfl)
theorem dX6_harmAt_73 : decode cX6_harmAt 73 = .ok (.getfield 185, 3) := dk_180 0 185 (dk_at dksX6_harmAt_3 3 rfl rfl)
theorem dX6_harmAt_76 : decode cX6_harmAt 76 = .ok (.getfield 189, 3) := dk_180 0 189 (dk_at dksX6_harmAt_3 6 rfl rfl)
theorem dX6_harmAt_79 : decode cX6_harmAt 79 = .ok (.iconst 2, 1) := dk_5 (dk_at dksX6_harmAt_3 9 rfl rfl)
theorem dX6_harmAt_80 : decode cX6_harmAt 80 = .ok (.aload_n 0, 1) := dk_42 (dk_at dksX6_harmAt_3 10 rfl rfl)
theorem dX6_harmAt_81 : decode cX6_harmAt 81 = .ok (.getfield 175, 3) := dk_180 0 175 (dk_at dksX6_harmAt_3 11 rfl rfl)
theorem dX6_harmAt_84 : decode cX6_harmAt 84 = .ok (.iconst 5, 1) := dk_8 (dk_at dksX6_harmAt_3 14 rfl rfl)
theorem dX6_harmAt_85 : decode cX6_harmAt 85 = .ok (.irem, 1) := dk_112 (dk_at dksX6_harmAt_3 15 rfl rfl)
theorem dX6_harmAt_86 : decode cX6_harmAt 86 = .ok (.aload_n 0, 1) := dk_42 (dk_at dksX6_harmAt_3 16 rfl rfl)
theorem dX6_harmAt_87 : decode cX6_harmAt 87 = .ok (.getfield 175, 3) := dk_180 0 175 (dk_at dksX6_harmAt_3 17 rfl rfl)
theorem dX6_harmAt_90 : decode cX6_harmAt 90 = .ok (.iconst 5, 1) := dk_8 (dk_at dksX6_harmAt_3 20 rfl rfl)
theorem dX6_harmAt_91 : decode cX6_harmAt 91 = .ok (.idiv, 1) := dk_108 (dk_at dksX6_harmAt_3 21 rfl rfl)
theorem dX6_harmAt_92 : decode cX6_harmAt 92 = .ok (.iload_n 1, 1) := dk_27 (dk_at dksX6_harmAt_3 22 rfl rfl)
theorem dX6_harmAt_93 : decode cX6_harmAt 93 = .ok (.iload_n 2, 1) := dk_28 (dk_at dksX6_harmAt_3 23 rfl rfl)
theorem dX6_harmAt_94 : decode cX6_harmAt 94 = .ok (.invokestatic 198, 3) := dk_184 0 198 (dk_at dksX6_harmAt_4 0 rfl rfl)
theorem dX6_harmAt_97 : decode cX6_harmAt 97 = .ok (.i2l, 1) := dk_133 (dk_at dksX6_harmAt_4 3 rfl rfl)
theorem dX6_harmAt_98 : decode cX6_harmAt 98 = .ok (.lastore, 1) := dk_80 (dk_at dksX6_harmAt_4 4 rfl rfl)
theorem dX6_harmAt_99 : decode cX6_harmAt 99 = .ok (.aload_n 0, 1) := dk_42 (dk_at dksX6_harmAt_4 5 rfl rfl)
theorem dX6_harmAt_100 : decode cX6_harmAt 100 = .ok (.getfield 3, 3) := dk_180 0 3 (dk_at dksX6_harmAt_4 6 rfl rfl)
theorem dX6_harmAt_103 : decode cX6_harmAt 103 = .ok (.getfield 185, 3) := dk_180 0 185 (dk_at dksX6_harmAt_4 9 rfl rfl)
theorem dX6_harmAt_106 : decode cX6_harmAt 106 = .ok (.getfield 189, 3) := dk_180 0 189 (dk_at dksX6_harmAt_4 12 rfl rfl)
theorem dX6_harmAt_109 : decode cX6_harmAt 109 = .ok (.iconst 3, 1) := dk_6 (dk_at dksX6_harmAt_4 15 rfl rfl)
theorem dX6_harmAt_110 : decode cX6_harmAt 110 = .ok (.aload_n 0, 1) := dk_42 (dk_at dksX6_harmAt_4 16 rfl rfl)
theorem dX6_harmAt_111 : decode cX6_harmAt 111 = .ok (.getfield 30, 3) := dk_180 0 30 (dk_at dksX6_harmAt_4 17 rfl rfl)
theorem dX6_harmAt_114 : decode cX6_harmAt 114 = .ok (.iconst 1, 1) := dk_4 (dk_at dksX6_harmAt_4 20 rfl rfl)
theorem dX6_harmAt_115 : decode cX6_harmAt 115 = .ok (.isub, 1) := dk_100 (dk_at dksX6_harmAt_4 21 rfl rfl)
theorem dX6_harmAt_116 : decode cX6_harmAt 116 = .ok (.i2l, 1) := dk_133 (dk_at dksX6_harmAt_4 22 rfl rfl)
theorem dX6_harmAt_117 : decode cX6_harmAt 117 = .ok (.lastore, 1) := dk_80 (dk_at dksX6_harmAt_4 23 rfl rfl)
theorem dX6_harmAt_118 : decode cX6_harmAt 118 = .ok (.lconst 0, 1) := dk_9 (dk_at dksX6_harmAt_5 0 rfl rfl)
theorem dX6_harmAt_119 : decode cX6_harmAt 119 = .ok (.aload_n 0, 1) := dk_42 (dk_at dksX6_harmAt_5 1 rfl rfl)
theorem dX6_harmAt_120 : decode cX6_harmAt 120 = .ok (.getfield 3, 3) := dk_180 0 3 (dk_at dksX6_harmAt_5 2 rfl rfl)
theorem dX6_harmAt_123 : decode cX6_harmAt 123 = .ok (.getfield 59, 3) := dk_180 0 59 (dk_at dksX6_harmAt_5 5 rfl rfl)
theorem dX6_harmAt_126 : decode cX6_harmAt 126 = .ok (.getfield 178, 3) := dk_180 0 178 (dk_at dksX6_harmAt_5 8 rfl rfl)
theorem dX6_harmAt_129 : decode cX6_harmAt 129 = .ok (.aload_n 0, 1) := dk_42 (dk_at dksX6_harmAt_5 11 rfl rfl)
theorem dX6_harmAt_130 : decode cX6_harmAt 130 = .ok (.getfield 3, 3) := dk_180 0 3 (dk_at dksX6_harmAt_5 12 rfl rfl)
theorem dX6_harmAt_133 : decode cX6_harmAt 133 = .ok (.getfield 185, 3) := dk_180 0 185 (dk_at dksX6_harmAt_5 15 rfl rfl)
theorem dX6_harmAt_136 : decode cX6_harmAt 136 = .ok (.invokevirtual 202, 3) := dk_182 0 202 (dk_at dksX6_harmAt_5 18 rfl rfl)
theorem dX6_harmAt_139 : decode cX6_harmAt 139 = .ok (.invokestatic 208, 3) := dk_184 0 208 (dk_at dksX6_harmAt_5 21 rfl rfl)
theorem dX6_harmAt_142 : decode cX6_harmAt 142 = .ok (.l2i, 1) := dk_136 (dk_at dksX6_harmAt_6 0 rfl rfl)
theorem dX6_harmAt_143 : decode cX6_harmAt 143 = .ok (.ireturn, 1) := dk_172 (dk_at dksX6_harmAt_6 1 rfl rfl)
