set_option maxRecDepth 100000
abbrev cX7_deeper : ByteArray := prog_25_method_97_code
def yX7_deeper : MethodName := ⟨RX7, "deeper", "(III)J"⟩
def dkwX7_deeper_3 : List UInt8 := [42, 2, 181, 0, 178, 42, 182, 2, 78, 54, 5, 42, 182, 2, 115, 21, 5, 21, 4, 100, 133, 173]
abbrev dktX7_deeper_3 : List UInt8 := dkwX7_deeper_3 ++ []
def dkwX7_deeper_2 : List UInt8 := [182, 2, 78, 54, 4, 42, 182, 2, 69, 42, 27, 181, 0, 178, 42, 28, 181, 2, 57, 42, 29, 182, 2, 112]
abbrev dktX7_deeper_2 : List UInt8 := dkwX7_deeper_2 ++ dktX7_deeper_3
def dkwX7_deeper_1 : List UInt8 := [3, 16, 20, 182, 2, 106, 154, 0, 7, 20, 2, 98, 173, 42, 182, 2, 109, 42, 29, 182, 2, 112, 42]
abbrev dktX7_deeper_1 : List UInt8 := dkwX7_deeper_1 ++ dktX7_deeper_2
def dkwX7_deeper_0 : List UInt8 := [27, 133, 9, 10, 184, 1, 65, 153, 0, 26, 28, 133, 10, 20, 2, 81, 184, 1, 65, 153, 0, 14, 42, 29]
abbrev dktX7_deeper_0 : List UInt8 := dkwX7_deeper_0 ++ dktX7_deeper_1
theorem dksX7_deeper_0 : cX7_deeper.data.toList.drop 0 = dktX7_deeper_0 := by decide +kernel
theorem dksX7_deeper_1 : cX7_deeper.data.toList.drop 24 = dktX7_deeper_1 := dk_seg dksX7_deeper_0 24 rfl rfl
theorem dksX7_deeper_2 : cX7_deeper.data.toList.drop 47 = dktX7_deeper_2 := dk_seg dksX7_deeper_1 23 rfl rfl
theorem dksX7_deeper_3 : cX7_deeper.data.toList.drop 71 = dktX7_deeper_3 := dk_seg dksX7_deeper_2 24 rfl rfl
theorem dX7_deeper_0 : decode cX7_deeper 0 = .ok (.iload_n 1, 1) := dk_27 (dk_at dksX7_deeper_0 0 rfl rfl)
theorem dX7_deeper_1 : decode cX7_deeper 1 = .ok (.i2l, 1) := dk_133 (dk_at dksX7_deeper_0 1 rfl rfl)
theorem dX7_deeper_2 : decode cX7_deeper 2 = .ok (.lconst 0, 1) := dk_9 (dk_at dksX7_deeper_0 2 rfl rfl)
theorem dX7_deeper_3 : decode cX7_deeper 3 = .ok (.lconst 1, 1) := dk_10 (dk_at dksX7_deeper_0 3 rfl rfl)
theorem dX7_deeper_4 : decode cX7_deeper 4 = .ok (.invokestatic 321, 3) := dk_184 1 65 (dk_at dksX7_deeper_0 4 rfl rfl)
theorem dX7_deeper_7 : decode cX7_deeper 7 = .ok (.ifCond .eq 26, 3) := dk_153 0 26 (dk_at dksX7_deeper_0 7 rfl rfl)
theorem dX7_deeper_10 : decode cX7_deeper 10 = .ok (.iload_n 2, 1) := dk_28 (dk_at dksX7_deeper_0 10 rfl rfl)
theorem dX7_deeper_11 : decode cX7_deeper 11 = .ok (.i2l, 1) := dk_133 (dk_at dksX7_deeper_0 11 rfl rfl)
theorem dX7_deeper_12 : decode cX7_deeper 12 = .ok (.lconst 1, 1) := dk_10 (dk_at dksX7_deeper_0 12 rfl rfl)
theorem dX7_deeper_13 : decode cX7_deeper 13 = .ok (.ldc2_w 593, 3) := dk_20 2 81 (dk_at dksX7_deeper_0 13 rfl rfl)
theorem dX7_deeper_16 : decode cX7_deeper 16 = .ok (.invokestatic 321, 3) := dk_184 1 65 (dk_at dksX7_deeper_0 16 rfl rfl)
theorem dX7_deeper_19 : decode cX7_deeper 19 = .ok (.ifCond .eq 14, 3) := dk_153 0 14 (dk_at dksX7_deeper_0 19 rfl rfl)
theorem dX7_deeper_22 : decode cX7_deeper 22 = .ok (.aload_n 0, 1) := dk_42 (dk_at dksX7_deeper_0 22 rfl rfl)
theorem dX7_deeper_23 : decode cX7_deeper 23 = .ok (.iload_n 3, 1) := dk_29 (dk_at dksX7_deeper_0 23 rfl rfl)
theorem dX7_deeper_24 : decode cX7_deeper 24 = .ok (.iconst 0, 1) := dk_3 (dk_at dksX7_deeper_1 0 rfl rfl)
theorem dX7_deeper_25 : decode cX7_deeper 25 = .ok (.bipush 20, 2) := dk_16 20 (dk_at dksX7_deeper_1 1 rfl rfl)
theorem dX7_deeper_27 : decode cX7_deeper 27 = .ok (.invokevirtual 618, 3) := dk_182 2 106 (dk_at dksX7_deeper_1 3 rfl rfl)
theorem dX7_deeper_30 : decode cX7_deeper 30 = .ok (.ifCond .ne 7, 3) := dk_154 0 7 (dk_at dksX7_deeper_1 6 rfl rfl)
theorem dX7_deeper_33 : decode cX7_deeper 33 = .ok (.ldc2_w 610, 3) := dk_20 2 98 (dk_at dksX7_deeper_1 9 rfl rfl)
theorem dX7_deeper_36 : decode cX7_deeper 36 = .ok (.lreturn, 1) := dk_173 (dk_at dksX7_deeper_1 12 rfl rfl)
theorem dX7_deeper_37 : decode cX7_deeper 37 = .ok (.aload_n 0, 1) := dk_42 (dk_at dksX7_deeper_1 13 rfl rfl)
theorem dX7_deeper_38 : decode cX7_deeper 38 = .ok (.invokevirtual 621, 3) := dk_182 2 109 (dk_at dksX7_deeper_1 14 rfl rfl)
theorem dX7_deeper_41 : decode cX7_deeper 41 = .ok (.aload_n 0, 1) := dk_42 (dk_at dksX7_deeper_1 17 rfl rfl)
theorem dX7_deeper_42 : decode cX7_deeper 42 = .ok (.iload_n 3, 1) := dk_29 (dk_at dksX7_deeper_1 18 rfl rfl)
theorem dX7_deeper_43 : decode cX7_deeper 43 = .ok (.invokevirtual 624, 3) := dk_182 2 112 (dk_at dksX7_deeper_1 19 rfl rfl)
theorem dX7_deeper_46 : decode cX7_deeper 46 = .ok (.aload_n 0, 1) := dk_42 (dk_at dksX7_deeper_1 22 rfl rfl)
theorem dX7_deeper_47 : decode cX7_deeper 47 = .ok (.invokevirtual 590, 3) := dk_182 2 78 (dk_at dksX7_deeper_2 0 rfl rfl)
theorem dX7_deeper_50 : decode cX7_deeper 50 = .ok (.istore 4, 2) := dk_54 4 (dk_at dksX7_deeper_2 3 rfl rfl)
theorem dX7_deeper_52 : decode cX7_deeper 52 = .ok (.aload_n 0, 1) := dk_42 (dk_at dksX7_deeper_2 5 rfl rfl)
theorem dX7_deeper_53 : decode cX7_deeper 53 = .ok (.invokevirtual 581, 3) := dk_182 2 69 (dk_at dksX7_deeper_2 6 rfl rfl)
theorem dX7_deeper_56 : decode cX7_deeper 56 = .ok (.aload_n 0, 1) := dk_42 (dk_at dksX7_deeper_2 9 rfl rfl)
theorem dX7_deeper_57 : decode cX7_deeper 57 = .ok (.iload_n 1, 1) := dk_27 (dk_at dksX7_deeper_2 10 rfl rfl)
theorem dX7_deeper_58 : decode cX7_deeper 58 = .ok (.putfield 178, 3) := dk_181 0 178 (dk_at dksX7_deeper_2 11 rfl rfl)
theorem dX7_deeper_61 : decode cX7_deeper 61 = .ok (.aload_n 0, 1) := dk_42 (dk_at dksX7_deeper_2 14 rfl rfl)
theorem dX7_deeper_62 : decode cX7_deeper 62 = .ok (.iload_n 2, 1) := dk_28 (dk_at dksX7_deeper_2 15 rfl rfl)
theorem dX7_deeper_63 : decode cX7_deeper 63 = .ok (.putfield 569, 3) := dk_181 2 57 (dk_at dksX7_deeper_2 16 rfl rfl)
theorem dX7_deeper_66 : decode cX7_deeper 66 = .ok (.aload_n 0, 1) := dk_42 (dk_at dksX7_deeper_2 19 rfl rfl)
theorem dX7_deeper_67 : decode cX7_deeper 67 = .ok (.iload_n 3, 1) := dk_29 (dk_at dksX7_deeper_2 20 rfl rfl)
theorem dX7_deeper_68 : decode cX7_deeper 68 = .ok (.invokevirtual 624, 3) := dk_182 2 112 (dk_at dksX7_deeper_2 21 rfl rfl)
theorem dX7_deeper_71 : decode cX7_deeper 71 = .ok (.aload_n 0, 1) := dk_42 (dk_at dksX7_deeper_3 0 rfl rfl)
theorem dX7_deeper_72 : decode cX7_deeper 72 = .ok (.iconst (-1), 1) := dk_2 (dk_at dksX7_deeper_3 1 rfl rfl)
theorem dX7_deeper_73 : decode cX7_deeper 73 = .ok (.putfield 178, 3) := dk_181 0 178 (dk_at dksX7_deeper_3 2 rfl rfl)
theorem dX7_deeper_76 : decode cX7_deeper 76 = .ok (.aload_n 0, 1) := dk_42 (dk_at dksX7_deeper_3 5 rfl rfl)
theorem dX7_deeper_77 : decode cX7_deeper 77 = .ok (.invokevirtual 590, 3) := dk_182 2 78 (dk_at dksX7_deeper_3 6 rfl rfl)
theorem dX7_deeper_80 : decode cX7_deeper 80 = .ok (.istore 5, 2) := dk_54 5 (dk_at dksX7_deeper_3 9 rfl rfl)
theorem dX7_deeper_82 : decode cX7_deeper 82 = .ok (.aload_n 0, 1) := dk_42 (dk_at dksX7_deeper_3 11 rfl rfl)
theorem dX7_deeper_83 : decode cX7_deeper 83 = .ok (.invokevirtual 627, 3) := dk_182 2 115 (dk_at dksX7_deeper_3 12 rfl rfl)
theorem dX7_deeper_86 : decode cX7_deeper 86 = .ok (.iload 5, 2) := dk_21 5 (dk_at dksX7_deeper_3 15 rfl rfl)
theorem dX7_deeper_88 : decode cX7_deeper 88 = .ok (.iload 4, 2) := dk_21 4 (dk_at dksX7_deeper_3 17 rfl rfl)
theorem dX7_deeper_90 : decode cX7_deeper 90 = .ok (.isub, 1) := dk_100 (dk_at dksX7_deeper_3 19 rfl rfl)
theorem dX7_deeper_91 : decode cX7_deeper 91 = .ok (.i2l, 1) := dk_133 (dk_at dksX7_deeper_3 20 rfl rfl)
theorem dX7_deeper_92 : decode cX7_deeper 92 = .ok (.lreturn, 1) := dk_173 (dk_at dksX7_deeper_3 21 rfl rfl)
abbrev cX7_see : ByteArray := prog_25_method_99_code
def yX7_see : MethodName := ⟨RX7, "see", "()I"⟩
def dkwX7_see_4 : List UInt8 := [167, 255, 236, 42, 27, 6, 108, 181, 1, 174, 42, 180, 1, 174, 172]
abbrev dktX7_see_4 : List UInt8 := dkwX7_see_4 ++ []
def dkwX7_see_3 : List UInt8 := [172, 3, 62, 29, 27, 162, 0, 21, 42, 180, 0, 181, 29, 42, 180, 0, 7, 29, 46, 79, 132, 3, 1]
abbrev dktX7_see_3 : List UInt8 := dkwX7_see_3 ++ dktX7_see_4
def dkwX7_see_2 : List UInt8 := [180, 0, 7, 29, 46, 182, 2, 90, 61, 132, 3, 3, 167, 255, 233, 28, 154, 0, 9, 42, 4, 182, 2, 127]
abbrev dktX7_see_2 : List UInt8 := dkwX7_see_2 ++ dktX7_see_3
def dkwX7_see_1 : List UInt8 := [16, 16, 163, 0, 7, 4, 167, 0, 4, 3, 61, 3, 62, 29, 27, 162, 0, 24, 28, 153, 0, 20, 42, 42]
abbrev dktX7_see_1 : List UInt8 := dkwX7_see_1 ++ dktX7_see_2
def dkwX7_see_0 : List UInt8 := [42, 180, 1, 19, 60, 42, 3, 181, 1, 19, 27, 158, 0, 21, 27, 6, 112, 154, 0, 15, 27, 6, 108]
abbrev dktX7_see_0 : List UInt8 := dkwX7_see_0 ++ dktX7_see_1
theorem dksX7_see_0 : cX7_see.data.toList.drop 0 = dktX7_see_0 := by decide +kernel
theorem dksX7_see_1 : cX7_see.data.toList.drop 23 = dktX7_see_1 := dk_seg dksX7_see_0 23 rfl rfl
theorem dksX7_see_2 : cX7_see.data.toList.drop 47 = dktX7_see_2 := dk_seg dksX7_see_1 24 rfl rfl
theorem dksX7_see_3 : cX7_see.data.toList.drop 71 = dktX7_see_3 := dk_seg dksX7_see_2 24 rfl rfl
theorem dksX7_see_4 : cX7_see.data.toList.drop 94 = dktX7_see_4 := dk_seg dksX7_see_3 23 rfl rfl
theorem dX7_see_0 : decode cX7_see 0 = .ok (.aload_n 0, 1) := dk_42 (dk_at dksX7_see_0 0 rfl rfl)
theorem dX7_see_1 : decode cX7_see 1 = .ok (.getfield 275, 3) := dk_180 1 19 (dk_at dksX7_see_0 1 rfl rfl)
theorem dX7_see_4 : decode cX7_see 4 = .ok (.istore_n 1, 1) := dk_60 (dk_at dksX7_see_0 4 rfl rfl)
theorem dX7_see_5 : decode cX7_see 5 = .ok (.aload_n 0, 1) := dk_42 (dk_at dksX7_see_0 5 rfl rfl)
theorem dX7_see_6 : decode cX7_see 6 = .ok (.iconst 0, 1) := dk_3 (dk_at dksX7_see_0 6 rfl rfl)
theorem dX7_see_7 : decode cX7_see 7 = .ok (.putfield 275, 3) := dk_181 1 19 (dk_at dksX7_see_0 7 rfl rfl)
theorem dX7_see_10 : decode cX7_see 10 = .ok (.iload_n 1, 1) := dk_27 (dk_at dksX7_see_0 10 rfl rfl)
theorem dX7_see_11 : decode cX7_see 11 = .ok (.ifCond .le 21, 3) := dk_158 0 21 (dk_at dksX7_see_0 11 rfl rfl)
theorem dX7_see_14 : decode cX7_see 14 = .ok (.iload_n 1, 1) := dk_27 (dk_at dksX7_see_0 14 rfl rfl)
theorem dX7_see_15 : decode cX7_see 15 = .ok (.iconst 3, 1) := dk_6 (dk_at dksX7_see_0 15 rfl rfl)
theorem dX7_see_16 : decode cX7_see 16 = .ok (.irem, 1) := dk_112 (dk_at dksX7_see_0 16 rfl rfl)
theorem dX7_see_17 : decode cX7_see 17 = .ok (.ifCond .ne 15, 3) := dk_154 0 15 (dk_at dksX7_see_0 17 rfl rfl)
theorem dX7_see_20 : decode cX7_see 20 = .ok (.iload_n 1, 1) := dk_27 (dk_at dksX7_see_0 20 rfl rfl)
theorem dX7_see_21 : decode cX7_see 21 = .ok (.iconst 3, 1) := dk_6 (dk_at dksX7_see_0 21 rfl rfl)
theorem dX7_see_22 : decode cX7_see 22 = .ok (.idiv, 1) := dk_108 (dk_at dksX7_see_0 22 rfl rfl)
theorem dX7_see_23 : decode cX7_see 23 = .ok (.bipush 16, 2) := dk_16 16 (dk_at dksX7_see_1 0 rfl rfl)
theorem dX7_see_25 : decode cX7_see 25 = .ok (.if_icmp .gt 7, 3) := dk_163 0 7 (dk_at dksX7_see_1 2 rfl rfl)
theorem dX7_see_28 : decode cX7_see 28 = .ok (.iconst 1, 1) := dk_4 (dk_at dksX7_see_1 5 rfl rfl)
theorem dX7_see_29 : decode cX7_see 29 = .ok (.goto 4, 3) := dk_167 0 4 (dk_at dksX7_see_1 6 rfl rfl)
theorem dX7_see_32 : decode cX7_see 32 = .ok (.iconst 0, 1) := dk_3 (dk_at dksX7_see_1 9 rfl rfl)
theorem dX7_see_33 : decode cX7_see 33 = .ok (.istore_n 2, 1) := dk_61 (dk_at dksX7_see_1 10 rfl rfl)
theorem dX7_see_34 : decode cX7_see 34 = .ok (.iconst 0, 1) := dk_3 (dk_at dksX7_see_1 11 rfl rfl)
theorem dX7_see_35 : decode cX7_see 35 = .ok (.istore_n 3, 1) := dk_62 (dk_at dksX7_see_1 12 rfl rfl)
theorem dX7_see_36 : decode cX7_see 36 = .ok (.iload_n 3, 1) := dk_29 (dk_at dksX7_see_1 13 rfl rfl)
theorem dX7_see_37 : decode cX7_see 37 = .ok (.iload_n 1, 1) := dk_27 (dk_at dksX7_see_1 14 rfl rfl)
theorem dX7_see_38 : decode cX7_see 38 = .ok (.if_icmp .ge 24, 3) := dk_162 0 24 (dk_at dksX7_see_1 15 rfl rfl)
theorem dX7_see_41 : decode cX7_see 41 = .ok (.iload_n 2, 1) := dk_28 (dk_at dksX7_see_1 18 rfl rfl)
theorem dX7_see_42 : decode cX7_see 42 = .ok (.ifCond .eq 20, 3) := dk_153 0 20 (dk_at dksX7_see_1 19 rfl rfl)
theorem dX7_see_45 : decode cX7_see 45 = .ok (.aload_n 0, 1) := dk_42 (dk_at dksX7_see_1 22 rfl rfl)
theorem dX7_see_46 : decode cX7_see 46 = .ok (.aload_n 0, 1) := dk_42 (dk_at dksX7_see_1 23 rfl rfl)
theorem dX7_see_47 : decode cX7_see 47 = .ok (.getfield 7, 3) := dk_180 0 7 (dk_at dksX7_see_2 0 rfl rfl)
theorem dX7_see_50 : decode cX7_see 50 = .ok (.iload_n 3, 1) := dk_29 (dk_at dksX7_see_2 3 rfl rfl)
theorem dX7_see_51 : decode cX7_see 51 = .ok (.iaload, 1) := dk_46 (dk_at dksX7_see_2 4 rfl rfl)
theorem dX7_see_52 : decode cX7_see 52 = .ok (.invokevirtual 602, 3) := dk_182 2 90 (dk_at dksX7_see_2 5 rfl rfl)
theorem dX7_see_55 : decode cX7_see 55 = .ok (.istore_n 2, 1) := dk_61 (dk_at dksX7_see_2 8 rfl rfl)
theorem dX7_see_56 : decode cX7_see 56 = .ok (.iinc 3 3, 3) := dk_132 3 3 (dk_at dksX7_see_2 9 rfl rfl)
theorem dX7_see_59 : decode cX7_see 59 = .ok (.goto (-23), 3) := dk_167 255 233 (dk_at dksX7_see_2 12 rfl rfl)
theorem dX7_see_62 : decode cX7_see 62 = .ok (.iload_n 2, 1) := dk_28 (dk_at dksX7_see_2 15 rfl rfl)
theorem dX7_see_63 : decode cX7_see 63 = .ok (.ifCond .ne 9, 3) := dk_154 0 9 (dk_at dksX7_see_2 16 rfl rfl)
theorem dX7_see_66 : decode cX7_see 66 = .ok (.aload_n 0, 1) := dk_42 (dk_at dksX7_see_2 19 rfl rfl)
theorem dX7_see_67 : decode cX7_see 67 = .ok (.iconst 1, 1) := dk_4 (dk_at dksX7_see_2 20 rfl rfl)
theorem dX7_see_68 : decode cX7_see 68 = .ok (.invokevirtual 639, 3) := dk_182 2 127 (dk_at dksX7_see_2 21 rfl rfl)
theorem dX7_see_71 : decode cX7_see 71 = .ok (.ireturn, 1) := dk_172 (dk_at dksX7_see_3 0 rfl rfl)
theorem dX7_see_72 : decode cX7_see 72 = .ok (.iconst 0, 1) := dk_3 (dk_at dksX7_see_3 1 rfl rfl)
theorem dX7_see_73 : decode cX7_see 73 = .ok (.istore_n 3, 1) := dk_62 (dk_at dksX7_see_3 2 rfl rfl)
theorem dX7_see_74 : decode cX7_see 74 = .ok (.iload_n 3, 1) := dk_29 (dk_at dksX7_see_3 3 rfl rfl)
theorem dX7_see_75 : decode cX7_see 75 = .ok (.iload_n 1, 1) := dk_27 (dk_at dksX7_see_3 4 rfl rfl)
theorem dX7_see_76 : decode cX7_see 76 = .ok (.if_icmp .ge 21, 3) := dk_162 0 21 (dk_at dksX7_see_3 5 rfl rfl)
theorem dX7_see_79 : decode cX7_see 79 = .ok (.aload_n 0, 1) := dk_42 (dk_at dksX7_see_3 8 rfl rfl)
theorem dX7_see_80 : decode cX7_see 80 = .ok (.getfield 181, 3) := dk_180 0 181 (dk_at dksX7_see_3 9 rfl rfl)
theorem dX7_see_83 : decode cX7_see 83 = .ok (.iload_n 3, 1) := dk_29 (dk_at dksX7_see_3 12 rfl rfl)
theorem dX7_see_84 : decode cX7_see 84 = .ok (.aload_n 0, 1) := dk_42 (dk_at dksX7_see_3 13 rfl rfl)
theorem dX7_see_85 : decode cX7_see 85 = .ok (.getfield 7, 3) := dk_180 0 7 (dk_at dksX7_see_3 14 rfl rfl)
theorem dX7_see_88 : decode cX7_see 88 = .ok (.iload_n 3, 1) := dk_29 (dk_at dksX7_see_3 17 rfl rfl)
theorem dX7_see_89 : decode cX7_see 89 = .ok (.iaload, 1) := dk_46 (dk_at dksX7_see_3 18 rfl rfl)
theorem dX7_see_90 : decode cX7_see 90 = .ok (.iastore, 1) := dk_79 (dk_at dksX7_see_3 19 rfl rfl)
theorem dX7_see_91 : decode cX7_see 91 = .ok (.iinc 3 1, 3) := dk_132 3 1 (dk_at dksX7_see_3 20 rfl rfl)
theorem dX7_see_94 : decode cX7_see 94 = .ok (.goto (-20), 3) := dk_167 255 236 (dk_at dksX7_see_4 0 rfl rfl)
theorem dX7_see_97 : decode cX7_see 97 = .ok (.aload_n 0, 1) := dk_42 (dk_at dksX7_see_4 3 rfl rfl)
theorem dX7_see_98 : decode cX7_see 98 = .ok (.iload_n 1, 1) := dk_27 (dk_at dksX7_see_4 4 rfl rfl)
theorem dX7_see_99 : decode cX7_see 99 = .ok (.iconst 3, 1) := dk_6 (dk_at dksX7_see_4 5 rfl rfl)
theorem dX7_see_100 : decode cX7_see 100 = .ok (.idiv, 1) := dk_108 (dk_at dksX7_see_4 6 rfl rfl)
theorem dX7_see_101 : decode cX7_see 101 = .ok (.putfield 430, 3) := dk_181 1 174 (dk_at dksX7_see_4 7 rfl rfl)
theorem dX7_see_104 : decode cX7_see 104 = .ok (.aload_n 0, 1) := dk_42 (dk_at dksX7_see_4 10 rfl rfl)
theorem dX7_see_105 : decode cX7_see 105 = .ok (.getfield 430, 3) := dk_180 1 174 (dk_at dksX7_see_4 11 rfl rfl)
theorem dX7_see_108 : decode cX7_see 108 = .ok (.ireturn, 1) := dk_172 (dk_at dksX7_see_4 14 rfl rfl)
abbrev cX7_refuses : ByteArray := prog_25_method_98_code
def yX7_refuses : MethodName := ⟨RX7, "refuses", "(I)I"⟩
def dkwX7_refuses_0 : List UInt8 := [42, 180, 0, 17, 27, 92, 46, 4, 96, 79, 2, 172]
abbrev dktX7_refuses_0 : List UInt8 := dkwX7_refuses_0 ++ []
theorem dksX7_refuses_0 : cX7_refuses.data.toList.drop 0 = dktX7_refuses_0 := by decide +kernel
theorem dX7_refuses_0 : decode cX7_refuses 0 = .ok (.aload_n 0, 1) := dk_42 (dk_at dksX7_refuses_0 0 rfl rfl)
theorem dX7_refuses_1 : decode cX7_refuses 1 = .ok (.getfield 17, 3) := dk_180 0 17 (dk_at dksX7_refuses_0 1 rfl rfl)
theorem dX7_refuses_4 : decode cX7_refuses 4 = .ok (.iload_n 1, 1) := dk_27 (dk_at dksX7_refuses_0 4 rfl rfl)
theorem dX7_refuses_5 : decode cX7_refuses 5 = .ok (.dup2, 1) := dk_92 (dk_at dksX7_refuses_0 5 rfl rfl)
theorem dX7_refuses_6 : decode cX7_refuses 6 = .ok (.iaload, 1) := dk_46 (dk_at dksX7_refuses_0 6 rfl rfl)
theorem dX7_refuses_7 : decode cX7_refuses 7 = .ok (.iconst 1, 1) := dk_4 (dk_at dksX7_refuses_0 7 rfl rfl)
theorem dX7_refuses_8 : decode cX7_refuses 8 = .ok (.iadd, 1) := dk_96 (dk_at dksX7_refuses_0 8 rfl rfl)
theorem dX7_refuses_9 : decode cX7_refuses 9 = .ok (.iastore, 1) := dk_79 (dk_at dksX7_refuses_0 9 rfl rfl)
theorem dX7_refuses_10 : decode cX7_refuses 10 = .ok (.iconst (-1), 1) := dk_2 (dk_at dksX7_refuses_0 10 rfl rfl)
theorem dX7_refuses_11 : decode cX7_refuses 11 = .ok (.ireturn, 1) := dk_172 (dk_at dksX7_refuses_0 11 rfl rfl)
abbrev cX7_played : ByteArray := prog_25_method_101_code
def yX7_played : MethodName := ⟨RX7, "played", "(I)I"⟩
def dkwX7_played_5 : List UInt8 := [160, 0, 7, 29, 167, 0, 5, 21, 4, 172]
abbrev dktX7_played_5 : List UInt8 := dkwX7_played_5 ++ []
def dkwX7_played_4 : List UInt8 := [54, 4, 132, 6, 1, 167, 255, 203, 42, 182, 2, 115, 27, 154, 0, 7, 28, 167, 0, 14, 27, 4]
abbrev dktX7_played_4 : List UInt8 := dkwX7_played_4 ++ dktX7_played_5
def dkwX7_played_3 : List UInt8 := [182, 2, 69, 21, 7, 154, 0, 6, 167, 0, 18, 132, 2, 1, 29, 2, 160, 0, 6, 21, 6, 62, 21, 6]
abbrev dktX7_played_3 : List UInt8 := dkwX7_played_3 ++ dktX7_played_4
def dkwX7_played_2 : List UInt8 := [21, 6, 21, 5, 162, 0, 52, 42, 21, 6, 182, 2, 95, 42, 182, 2, 66, 42, 182, 2, 130, 54, 7, 42]
abbrev dktX7_played_2 : List UInt8 := dkwX7_played_2 ++ dktX7_played_3
def dkwX7_played_1 : List UInt8 := [180, 1, 168, 153, 0, 10, 42, 182, 2, 118, 167, 0, 4, 3, 54, 5, 42, 182, 2, 109, 3, 54, 6]
abbrev dktX7_played_1 : List UInt8 := dkwX7_played_1 ++ dktX7_played_2
def dkwX7_played_0 : List UInt8 := [27, 133, 9, 20, 2, 81, 184, 1, 65, 154, 0, 5, 2, 172, 3, 61, 2, 62, 2, 54, 4, 42]
abbrev dktX7_played_0 : List UInt8 := dkwX7_played_0 ++ dktX7_played_1
theorem dksX7_played_0 : cX7_played.data.toList.drop 0 = dktX7_played_0 := by decide +kernel
theorem dksX7_played_1 : cX7_played.data.toList.drop 22 = dktX7_played_1 := dk_seg dksX7_played_0 22 rfl rfl
theorem dksX7_played_2 : cX7_played.data.toList.drop 45 = dktX7_played_2 := dk_seg dksX7_played_1 23 rfl rfl
theorem dksX7_played_3 : cX7_played.data.toList.drop 69 = dktX7_played_3 := dk_seg dksX7_played_2 24 rfl rfl
theorem dksX7_played_4 : cX7_played.data.toList.drop 93 = dktX7_played_4 := dk_seg dksX7_played_3 24 rfl rfl
theorem dksX7_played_5 : cX7_played.data.toList.drop 115 = dktX7_played_5 := dk_seg dksX7_played_4 22 rfl rfl
theorem dX7_played_0 : decode cX7_played 0 = .ok (.iload_n 1, 1) := dk_27 (dk_at dksX7_played_0 0 rfl rfl)
theorem dX7_played_1 : decode cX7_played 1 = .ok (.i2l, 1) := dk_133 (dk_at dksX7_played_0 1 rfl rfl)
theorem dX7_played_2 : decode cX7_played 2 = .ok (.lconst 0, 1) := dk_9 (dk_at dksX7_played_0 2 rfl rfl)
theorem dX7_played_3 : decode cX7_played 3 = .ok (.ldc2_w 593, 3) := dk_20 2 81 (dk_at dksX7_played_0 3 rfl rfl)
theorem dX7_played_6 : decode cX7_played 6 = .ok (.invokestatic 321, 3) := dk_184 1 65 (dk_at dksX7_played_0 6 rfl rfl)
theorem dX7_played_9 : decode cX7_played 9 = .ok (.ifCond .ne 5, 3) := dk_154 0 5 (dk_at dksX7_played_0 9 rfl rfl)
theorem dX7_played_12 : decode cX7_played 12 = .ok (.iconst (-1), 1) := dk_2 (dk_at dksX7_played_0 12 rfl rfl)
theorem dX7_played_13 : decode cX7_played 13 = .ok (.ireturn, 1) := dk_172 (dk_at dksX7_played_0 13 rfl rfl)
theorem dX7_played_14 : decode cX7_played 14 = .ok (.iconst 0, 1) := dk_3 (dk_at dksX7_played_0 14 rfl rfl)
theorem dX7_played_15 : decode cX7_played 15 = .ok (.istore_n 2, 1) := dk_61 (dk_at dksX7_played_0 15 rfl rfl)
theorem dX7_played_16 : decode cX7_played 16 = .ok (.iconst (-1), 1) := dk_2 (dk_at dksX7_played_0 16 rfl rfl)
theorem dX7_played_17 : decode cX7_played 17 = .ok (.istore_n 3, 1) := dk_62 (dk_at dksX7_played_0 17 rfl rfl)
theorem dX7_played_18 : decode cX7_played 18 = .ok (.iconst (-1), 1) := dk_2 (dk_at dksX7_played_0 18 rfl rfl)
theorem dX7_played_19 : decode cX7_played 19 = .ok (.istore 4, 2) := dk_54 4 (dk_at dksX7_played_0 19 rfl rfl)
theorem dX7_played_21 : decode cX7_played 21 = .ok (.aload_n 0, 1) := dk_42 (dk_at dksX7_played_0 21 rfl rfl)
theorem dX7_played_22 : decode cX7_played 22 = .ok (.getfield 424, 3) := dk_180 1 168 (dk_at dksX7_played_1 0 rfl rfl)
theorem dX7_played_25 : decode cX7_played 25 = .ok (.ifCond .eq 10, 3) := dk_153 0 10 (dk_at dksX7_played_1 3 rfl rfl)
theorem dX7_played_28 : decode cX7_played 28 = .ok (.aload_n 0, 1) := dk_42 (dk_at dksX7_played_1 6 rfl rfl)
theorem dX7_played_29 : decode cX7_played 29 = .ok (.invokevirtual 630, 3) := dk_182 2 118 (dk_at dksX7_played_1 7 rfl rfl)
theorem dX7_played_32 : decode cX7_played 32 = .ok (.goto 4, 3) := dk_167 0 4 (dk_at dksX7_played_1 10 rfl rfl)
theorem dX7_played_35 : decode cX7_played 35 = .ok (.iconst 0, 1) := dk_3 (dk_at dksX7_played_1 13 rfl rfl)
theorem dX7_played_36 : decode cX7_played 36 = .ok (.istore 5, 2) := dk_54 5 (dk_at dksX7_played_1 14 rfl rfl)
theorem dX7_played_38 : decode cX7_played 38 = .ok (.aload_n 0, 1) := dk_42 (dk_at dksX7_played_1 16 rfl rfl)
theorem dX7_played_39 : decode cX7_played 39 = .ok (.invokevirtual 621, 3) := dk_182 2 109 (dk_at dksX7_played_1 17 rfl rfl)
theorem dX7_played_42 : decode cX7_played 42 = .ok (.iconst 0, 1) := dk_3 (dk_at dksX7_played_1 20 rfl rfl)
theorem dX7_played_43 : decode cX7_played 43 = .ok (.istore 6, 2) := dk_54 6 (dk_at dksX7_played_1 21 rfl rfl)
theorem dX7_played_45 : decode cX7_played 45 = .ok (.iload 6, 2) := dk_21 6 (dk_at dksX7_played_2 0 rfl rfl)
theorem dX7_played_47 : decode cX7_played 47 = .ok (.iload 5, 2) := dk_21 5 (dk_at dksX7_played_2 2 rfl rfl)
theorem dX7_played_49 : decode cX7_played 49 = .ok (.if_icmp .ge 52, 3) := dk_162 0 52 (dk_at dksX7_played_2 4 rfl rfl)
theorem dX7_played_52 : decode cX7_played 52 = .ok (.aload_n 0, 1) := dk_42 (dk_at dksX7_played_2 7 rfl rfl)
theorem dX7_played_53 : decode cX7_played 53 = .ok (.iload 6, 2) := dk_21 6 (dk_at dksX7_played_2 8 rfl rfl)
theorem dX7_played_55 : decode cX7_played 55 = .ok (.invokevirtual 607, 3) := dk_182 2 95 (dk_at dksX7_played_2 10 rfl rfl)
theorem dX7_played_58 : decode cX7_played 58 = .ok (.aload_n 0, 1) := dk_42 (dk_at dksX7_played_2 13 rfl rfl)
theorem dX7_played_59 : decode cX7_played 59 = .ok (.invokevirtual 578, 3) := dk_182 2 66 (dk_at dksX7_played_2 14 rfl rfl)
theorem dX7_played_62 : decode cX7_played 62 = .ok (.aload_n 0, 1) := dk_42 (dk_at dksX7_played_2 17 rfl rfl)
theorem dX7_played_63 : decode cX7_played 63 = .ok (.invokevirtual 642, 3) := dk_182 2 130 (dk_at dksX7_played_2 18 rfl rfl)
theorem dX7_played_66 : decode cX7_played 66 = .ok (.istore 7, 2) := dk_54 7 (dk_at dksX7_played_2 21 rfl rfl)
theorem dX7_played_68 : decode cX7_played 68 = .ok (.aload_n 0, 1) := dk_42 (dk_at dksX7_played_2 23 rfl rfl)
theorem dX7_played_69 : decode cX7_played 69 = .ok (.invokevirtual 581, 3) := dk_182 2 69 (dk_at dksX7_played_3 0 rfl rfl)
theorem dX7_played_72 : decode cX7_played 72 = .ok (.iload 7, 2) := dk_21 7 (dk_at dksX7_played_3 3 rfl rfl)
theorem dX7_played_74 : decode cX7_played 74 = .ok (.ifCond .ne 6, 3) := dk_154 0 6 (dk_at dksX7_played_3 5 rfl rfl)
theorem dX7_played_77 : decode cX7_played 77 = .ok (.goto 18, 3) := dk_167 0 18 (dk_at dksX7_played_3 8 rfl rfl)
theorem dX7_played_80 : decode cX7_played 80 = .ok (.iinc 2 1, 3) := dk_132 2 1 (dk_at dksX7_played_3 11 rfl rfl)
theorem dX7_played_83 : decode cX7_played 83 = .ok (.iload_n 3, 1) := dk_29 (dk_at dksX7_played_3 14 rfl rfl)
theorem dX7_played_84 : decode cX7_played 84 = .ok (.iconst (-1), 1) := dk_2 (dk_at dksX7_played_3 15 rfl rfl)
theorem dX7_played_85 : decode cX7_played 85 = .ok (.if_icmp .ne 6, 3) := dk_160 0 6 (dk_at dksX7_played_3 16 rfl rfl)
theorem dX7_played_88 : decode cX7_played 88 = .ok (.iload 6, 2) := dk_21 6 (dk_at dksX7_played_3 19 rfl rfl)
theorem dX7_played_90 : decode cX7_played 90 = .ok (.istore_n 3, 1) := dk_62 (dk_at dksX7_played_3 21 rfl rfl)
theorem dX7_played_91 : decode cX7_played 91 = .ok (.iload 6, 2) := dk_21 6 (dk_at dksX7_played_3 22 rfl rfl)
theorem dX7_played_93 : decode cX7_played 93 = .ok (.istore 4, 2) := dk_54 4 (dk_at dksX7_played_4 0 rfl rfl)
theorem dX7_played_95 : decode cX7_played 95 = .ok (.iinc 6 1, 3) := dk_132 6 1 (dk_at dksX7_played_4 2 rfl rfl)
theorem dX7_played_98 : decode cX7_played 98 = .ok (.goto (-53), 3) := dk_167 255 203 (dk_at dksX7_played_4 5 rfl rfl)
theorem dX7_played_101 : decode cX7_played 101 = .ok (.aload_n 0, 1) := dk_42 (dk_at dksX7_played_4 8 rfl rfl)
theorem dX7_played_102 : decode cX7_played 102 = .ok (.invokevirtual 627, 3) := dk_182 2 115 (dk_at dksX7_played_4 9 rfl rfl)
theorem dX7_played_105 : decode cX7_played 105 = .ok (.iload_n 1, 1) := dk_27 (dk_at dksX7_played_4 12 rfl rfl)
theorem dX7_played_106 : decode cX7_played 106 = .ok (.ifCond .ne 7, 3) := dk_154 0 7 (dk_at dksX7_played_4 13 rfl rfl)
theorem dX7_played_109 : decode cX7_played 109 = .ok (.iload_n 2, 1) := dk_28 (dk_at dksX7_played_4 16 rfl rfl)
theorem dX7_played_110 : decode cX7_played 110 = .ok (.goto 14, 3) := dk_167 0 14 (dk_at dksX7_played_4 17 rfl rfl)
theorem dX7_played_113 : decode cX7_played 113 = .ok (.iload_n 1, 1) := dk_27 (dk_at dksX7_played_4 20 rfl rfl)
theorem dX7_played_114 : decode cX7_played 114 = .ok (.iconst 1, 1) := dk_4 (dk_at dksX7_played_4 21 rfl rfl)
theorem dX7_played_115 : decode cX7_played 115 = .ok (.if_icmp .ne 7, 3) := dk_160 0 7 (dk_at dksX7_played_5 0 rfl rfl)
theorem dX7_played_118 : decode cX7_played 118 = .ok (.iload_n 3, 1) := dk_29 (dk_at dksX7_played_5 3 rfl rfl)
theorem dX7_played_119 : decode cX7_played 119 = .ok (.goto 5, 3) := dk_167 0 5 (dk_at dksX7_played_5 4 rfl rfl)
theorem dX7_played_122 : decode cX7_played 122 = .ok (.iload 4, 2) := dk_21 4 (dk_at dksX7_played_5 7 rfl rfl)
theorem dX7_played_124 : decode cX7_played 124 = .ok (.ireturn, 1) := dk_172 (dk_at dksX7_played_5 9 rfl rfl)
abbrev cX7_isAsSeen : ByteArray := prog_25_method_100_code
def yX7_isAsSeen : MethodName := ⟨RX7, "isAsSeen", "()Z"⟩
def dkwX7_isAsSeen_2 : List UInt8 := [96, 46, 96, 159, 0, 5, 3, 172, 132, 1, 1, 167, 255, 199, 4, 172]
abbrev dktX7_isAsSeen_2 : List UInt8 := dkwX7_isAsSeen_2 ++ []
def dkwX7_isAsSeen_1 : List UInt8 := [96, 46, 17, 1, 0, 42, 180, 0, 181, 6, 27, 104, 4, 96, 46, 104, 42, 180, 0, 181, 6, 27, 104, 5]
abbrev dktX7_isAsSeen_1 : List UInt8 := dkwX7_isAsSeen_1 ++ dktX7_isAsSeen_2
def dkwX7_isAsSeen_0 : List UInt8 := [3, 60, 27, 42, 180, 1, 174, 162, 0, 55, 42, 180, 0, 154, 16, 18, 42, 180, 0, 181, 6, 27, 104, 46]
abbrev dktX7_isAsSeen_0 : List UInt8 := dkwX7_isAsSeen_0 ++ dktX7_isAsSeen_1
theorem dksX7_isAsSeen_0 : cX7_isAsSeen.data.toList.drop 0 = dktX7_isAsSeen_0 := by decide +kernel
theorem dksX7_isAsSeen_1 : cX7_isAsSeen.data.toList.drop 24 = dktX7_isAsSeen_1 := dk_seg dksX7_isAsSeen_0 24 rfl rfl
theorem dksX7_isAsSeen_2 : cX7_isAsSeen.data.toList.drop 48 = dktX7_isAsSeen_2 := dk_seg dksX7_isAsSeen_1 24 rfl rfl
theorem dX7_isAsSeen_0 : decode cX7_isAsSeen 0 = .ok (.iconst 0, 1) := dk_3 (dk_at dksX7_isAsSeen_0 0 rfl rfl)
theorem dX7_isAsSeen_1 : decode cX7_isAsSeen 1 = .ok (.istore_n 1, 1) := dk_60 (dk_at dksX7_isAsSeen_0 1 rfl rfl)
theorem dX7_isAsSeen_2 : decode cX7_isAsSeen 2 = .ok (.iload_n 1, 1) := dk_27 (dk_at dksX7_isAsSeen_0 2 rfl rfl)
theorem dX7_isAsSeen_3 : decode cX7_isAsSeen 3 = .ok (.aload_n 0, 1) := dk_42 (dk_at dksX7_isAsSeen_0 3 rfl rfl)
theorem dX7_isAsSeen_4 : decode cX7_isAsSeen 4 = .ok (.getfield 430, 3) := dk_180 1 174 (dk_at dksX7_isAsSeen_0 4 rfl rfl)
theorem dX7_isAsSeen_7 : decode cX7_isAsSeen 7 = .ok (.if_icmp .ge 55, 3) := dk_162 0 55 (dk_at dksX7_isAsSeen_0 7 rfl rfl)
theorem dX7_isAsSeen_10 : decode cX7_isAsSeen 10 = .ok (.aload_n 0, 1) := dk_42 (dk_at dksX7_isAsSeen_0 10 rfl rfl)
theorem dX7_isAsSeen_11 : decode cX7_isAsSeen 11 = .ok (.getfield 154, 3) := dk_180 0 154 (dk_at dksX7_isAsSeen_0 11 rfl rfl)
theorem dX7_isAsSeen_14 : decode cX7_isAsSeen 14 = .ok (.bipush 18, 2) := dk_16 18 (dk_at dksX7_isAsSeen_0 14 rfl rfl)
theorem dX7_isAsSeen_16 : decode cX7_isAsSeen 16 = .ok (.aload_n 0, 1) := dk_42 (dk_at dksX7_isAsSeen_0 16 rfl rfl)
theorem dX7_isAsSeen_17 : decode cX7_isAsSeen 17 = .ok (.getfield 181, 3) := dk_180 0 181 (dk_at dksX7_isAsSeen_0 17 rfl rfl)
theorem dX7_isAsSeen_20 : decode cX7_isAsSeen 20 = .ok (.iconst 3, 1) := dk_6 (dk_at dksX7_isAsSeen_0 20 rfl rfl)
theorem dX7_isAsSeen_21 : decode cX7_isAsSeen 21 = .ok (.iload_n 1, 1) := dk_27 (dk_at dksX7_isAsSeen_0 21 rfl rfl)
theorem dX7_isAsSeen_22 : decode cX7_isAsSeen 22 = .ok (.imul, 1) := dk_104 (dk_at dksX7_isAsSeen_0 22 rfl rfl)
theorem dX7_isAsSeen_23 : decode cX7_isAsSeen 23 = .ok (.iaload, 1) := dk_46 (dk_at dksX7_isAsSeen_0 23 rfl rfl)
theorem dX7_isAsSeen_24 : decode cX7_isAsSeen 24 = .ok (.iadd, 1) := dk_96 (dk_at dksX7_isAsSeen_1 0 rfl rfl)
theorem dX7_isAsSeen_25 : decode cX7_isAsSeen 25 = .ok (.iaload, 1) := dk_46 (dk_at dksX7_isAsSeen_1 1 rfl rfl)
theorem dX7_isAsSeen_26 : decode cX7_isAsSeen 26 = .ok (.sipush 256, 3) := dk_17 1 0 (dk_at dksX7_isAsSeen_1 2 rfl rfl)
theorem dX7_isAsSeen_29 : decode cX7_isAsSeen 29 = .ok (.aload_n 0, 1) := dk_42 (dk_at dksX7_isAsSeen_1 5 rfl rfl)
theorem dX7_isAsSeen_30 : decode cX7_isAsSeen 30 = .ok (.getfield 181, 3) := dk_180 0 181 (dk_at dksX7_isAsSeen_1 6 rfl rfl)
theorem dX7_isAsSeen_33 : decode cX7_isAsSeen 33 = .ok (.iconst 3, 1) := dk_6 (dk_at dksX7_isAsSeen_1 9 rfl rfl)
theorem dX7_isAsSeen_34 : decode cX7_isAsSeen 34 = .ok (.iload_n 1, 1) := dk_27 (dk_at dksX7_isAsSeen_1 10 rfl rfl)
theorem dX7_isAsSeen_35 : decode cX7_isAsSeen 35 = .ok (.imul, 1) := dk_104 (dk_at dksX7_isAsSeen_1 11 rfl rfl)
theorem dX7_isAsSeen_36 : decode cX7_isAsSeen 36 = .ok (.iconst 1, 1) := dk_4 (dk_at dksX7_isAsSeen_1 12 rfl rfl)
theorem dX7_isAsSeen_37 : decode cX7_isAsSeen 37 = .ok (.iadd, 1) := dk_96 (dk_at dksX7_isAsSeen_1 13 rfl rfl)
theorem dX7_isAsSeen_38 : decode cX7_isAsSeen 38 = .ok (.iaload, 1) := dk_46 (dk_at dksX7_isAsSeen_1 14 rfl rfl)
theorem dX7_isAsSeen_39 : decode cX7_isAsSeen 39 = .ok (.imul, 1) := dk_104 (dk_at dksX7_isAsSeen_1 15 rfl rfl)
theorem dX7_isAsSeen_40 : decode cX7_isAsSeen 40 = .ok (.aload_n 0, 1) := dk_42 (dk_at dksX7_isAsSeen_1 16 rfl rfl)
theorem dX7_isAsSeen_41 : decode cX7_isAsSeen 41 = .ok (.getfield 181, 3) := dk_180 0 181 (dk_at dksX7_isAsSeen_1 17 rfl rfl)
theorem dX7_isAsSeen_44 : decode cX7_isAsSeen 44 = .ok (.iconst 3, 1) := dk_6 (dk_at dksX7_isAsSeen_1 20 rfl rfl)
theorem dX7_isAsSeen_45 : decode cX7_isAsSeen 45 = .ok (.iload_n 1, 1) := dk_27 (dk_at dksX7_isAsSeen_1 21 rfl rfl)
theorem dX7_isAsSeen_46 : decode cX7_isAsSeen 46 = .ok (.imul, 1) := dk_104 (dk_at dksX7_isAsSeen_1 22 rfl rfl)
theorem dX7_isAsSeen_47 : decode cX7_isAsSeen 47 = .ok (.iconst 2, 1) := dk_5 (dk_at dksX7_isAsSeen_1 23 rfl rfl)
theorem dX7_isAsSeen_48 : decode cX7_isAsSeen 48 = .ok (.iadd, 1) := dk_96 (dk_at dksX7_isAsSeen_2 0 rfl rfl)
theorem dX7_isAsSeen_49 : decode cX7_isAsSeen 49 = .ok (.iaload, 1) := dk_46 (dk_at dksX7_isAsSeen_2 1 rfl rfl)
theorem dX7_isAsSeen_50 : decode cX7_isAsSeen 50 = .ok (.iadd, 1) := dk_96 (dk_at dksX7_isAsSeen_2 2 rfl rfl)
theorem dX7_isAsSeen_51 : decode cX7_isAsSeen 51 = .ok (.if_icmp .eq 5, 3) := dk_159 0 5 (dk_at dksX7_isAsSeen_2 3 rfl rfl)
theorem dX7_isAsSeen_54 : decode cX7_isAsSeen 54 = .ok (.iconst 0, 1) := dk_3 (dk_at dksX7_isAsSeen_2 6 rfl rfl)
theorem dX7_isAsSeen_55 : decode cX7_isAsSeen 55 = .ok (.ireturn, 1) := dk_172 (dk_at dksX7_isAsSeen_2 7 rfl rfl)
theorem dX7_isAsSeen_56 : decode cX7_isAsSeen 56 = .ok (.iinc 1 1, 3) := dk_132 1 1 (dk_at dksX7_isAsSeen_2 8 rfl rfl)
theorem dX7_isAsSeen_59 : decode cX7_isAsSeen 59 = .ok (.goto (-57), 3) := dk_167 255 199 (dk_at dksX7_isAsSeen_2 11 rfl rfl)
theorem dX7_isAsSeen_62 : decode cX7_isAsSeen 62 = .ok (.iconst 1, 1) := dk_4 (dk_at dksX7_isAsSeen_2 14 rfl rfl)
theorem dX7_isAsSeen_63 : decode cX7_isAsSeen 63 = .ok (.ireturn, 1) := dk_172 (dk_at dksX7_isAsSeen_2 15 rfl rfl)
abbrev cX7_reached : ByteArray := prog_25_method_107_code
def yX7_reached : MethodName := ⟨RX7, "reached", "(I)I"⟩
def dkwX7_reached_5 : List UInt8 := [160, 0, 10, 42, 182, 2, 139, 167, 0, 7, 42, 182, 2, 145, 172]
abbrev dktX7_reached_5 : List UInt8 := dkwX7_reached_5 ++ []
def dkwX7_reached_4 : List UInt8 := [154, 0, 10, 42, 182, 2, 133, 167, 0, 31, 27, 4, 160, 0, 10, 42, 182, 2, 136, 167, 0, 19, 27, 5]
abbrev dktX7_reached_4 : List UInt8 := dkwX7_reached_4 ++ dktX7_reached_5
def dkwX7_reached_3 : List UInt8 := [17, 0, 255, 160, 0, 7, 2, 167, 0, 9, 42, 180, 0, 7, 29, 46, 79, 132, 3, 1, 167, 255, 220, 27]
abbrev dktX7_reached_3 : List UInt8 := dkwX7_reached_3 ++ dktX7_reached_4
def dkwX7_reached_2 : List UInt8 := [42, 4, 182, 2, 127, 172, 3, 62, 29, 28, 162, 0, 37, 42, 180, 0, 184, 29, 42, 180, 0, 7, 29, 46]
abbrev dktX7_reached_2 : List UInt8 := dkwX7_reached_2 ++ dktX7_reached_3
def dkwX7_reached_1 : List UInt8 := [184, 1, 65, 153, 0, 21, 28, 5, 42, 182, 1, 177, 104, 160, 0, 11, 42, 3, 182, 2, 142, 154, 0, 9]
abbrev dktX7_reached_1 : List UInt8 := dkwX7_reached_1 ++ dktX7_reached_2
def dkwX7_reached_0 : List UInt8 := [42, 180, 1, 19, 61, 42, 3, 181, 1, 19, 42, 180, 1, 168, 153, 0, 33, 27, 133, 9, 20, 2, 85]
abbrev dktX7_reached_0 : List UInt8 := dkwX7_reached_0 ++ dktX7_reached_1
theorem dksX7_reached_0 : cX7_reached.data.toList.drop 0 = dktX7_reached_0 := by decide +kernel
theorem dksX7_reached_1 : cX7_reached.data.toList.drop 23 = dktX7_reached_1 := dk_seg dksX7_reached_0 23 rfl rfl
theorem dksX7_reached_2 : cX7_reached.data.toList.drop 47 = dktX7_reached_2 := dk_seg dksX7_reached_1 24 rfl rfl
theorem dksX7_reached_3 : cX7_reached.data.toList.drop 71 = dktX7_reached_3 := dk_seg dksX7_reached_2 24 rfl rfl
theorem dksX7_reached_4 : cX7_reached.data.toList.drop 95 = dktX7_reached_4 := dk_seg dksX7_reached_3 24 rfl rfl
theorem dksX7_reached_5 : cX7_reached.data.toList.drop 119 = dktX7_reached_5 := dk_seg dksX7_reached_4 24 rfl rfl
theorem dX7_reached_0 : decode cX7_reached 0 = .ok (.aload_n 0, 1) := dk_42 (dk_at dksX7_reached_0 0 rfl rfl)
theorem dX7_reached_1 : decode cX7_reached 1 = .ok (.getfield 275, 3) := dk_180 1 19 (dk_at dksX7_reached_0 1 rfl rfl)
theorem dX7_reached_4 : decode cX7_reached 4 = .ok (.istore_n 2, 1) := dk_61 (dk_at dksX7_reached_0 4 rfl rfl)
theorem dX7_reached_5 : decode cX7_reached 5 = .ok (.aload_n 0, 1) := dk_42 (dk_at dksX7_reached_0 5 rfl rfl)
theorem dX7_reached_6 : decode cX7_reached 6 = .ok (.iconst 0, 1) := dk_3 (dk_at dksX7_reached_0 6 rfl rfl)
theorem dX7_reached_7 : decode cX7_reached 7 = .ok (.putfield 275, 3) := dk_181 1 19 (dk_at dksX7_reached_0 7 rfl rfl)
theorem dX7_reached_10 : decode cX7_reached 10 = .ok (.aload_n 0, 1) := dk_42 (dk_at dksX7_reached_0 10 rfl rfl)
theorem dX7_reached_11 : decode cX7_reached 11 = .ok (.getfield 424, 3) := dk_180 1 168 (dk_at dksX7_reached_0 11 rfl rfl)
theorem dX7_reached_14 : decode cX7_reached 14 = .ok (.ifCond .eq 33, 3) := dk_153 0 33 (dk_at dksX7_reached_0 14 rfl rfl)
theorem dX7_reached_17 : decode cX7_reached 17 = .ok (.iload_n 1, 1) := dk_27 (dk_at dksX7_reached_0 17 rfl rfl)
theorem dX7_reached_18 : decode cX7_reached 18 = .ok (.i2l, 1) := dk_133 (dk_at dksX7_reached_0 18 rfl rfl)
theorem dX7_reached_19 : decode cX7_reached 19 = .ok (.lconst 0, 1) := dk_9 (dk_at dksX7_reached_0 19 rfl rfl)
theorem dX7_reached_20 : decode cX7_reached 20 = .ok (.ldc2_w 597, 3) := dk_20 2 85 (dk_at dksX7_reached_0 20 rfl rfl)
theorem dX7_reached_23 : decode cX7_reached 23 = .ok (.invokestatic 321, 3) := dk_184 1 65 (dk_at dksX7_reached_1 0 rfl rfl)
theorem dX7_reached_26 : decode cX7_reached 26 = .ok (.ifCond .eq 21, 3) := dk_153 0 21 (dk_at dksX7_reached_1 3 rfl rfl)
theorem dX7_reached_29 : decode cX7_reached 29 = .ok (.iload_n 2, 1) := dk_28 (dk_at dksX7_reached_1 6 rfl rfl)
theorem dX7_reached_30 : decode cX7_reached 30 = .ok (.iconst 2, 1) := dk_5 (dk_at dksX7_reached_1 7 rfl rfl)
theorem dX7_reached_31 : decode cX7_reached 31 = .ok (.aload_n 0, 1) := dk_42 (dk_at dksX7_reached_1 8 rfl rfl)
theorem dX7_reached_32 : decode cX7_reached 32 = .ok (.invokevirtual 433, 3) := dk_182 1 177 (dk_at dksX7_reached_1 9 rfl rfl)
theorem dX7_reached_35 : decode cX7_reached 35 = .ok (.imul, 1) := dk_104 (dk_at dksX7_reached_1 12 rfl rfl)
theorem dX7_reached_36 : decode cX7_reached 36 = .ok (.if_icmp .ne 11, 3) := dk_160 0 11 (dk_at dksX7_reached_1 13 rfl rfl)
theorem dX7_reached_39 : decode cX7_reached 39 = .ok (.aload_n 0, 1) := dk_42 (dk_at dksX7_reached_1 16 rfl rfl)
theorem dX7_reached_40 : decode cX7_reached 40 = .ok (.iconst 0, 1) := dk_3 (dk_at dksX7_reached_1 17 rfl rfl)
theorem dX7_reached_41 : decode cX7_reached 41 = .ok (.invokevirtual 654, 3) := dk_182 2 142 (dk_at dksX7_reached_1 18 rfl rfl)
theorem dX7_reached_44 : decode cX7_reached 44 = .ok (.ifCond .ne 9, 3) := dk_154 0 9 (dk_at dksX7_reached_1 21 rfl rfl)
theorem dX7_reached_47 : decode cX7_reached 47 = .ok (.aload_n 0, 1) := dk_42 (dk_at dksX7_reached_2 0 rfl rfl)
theorem dX7_reached_48 : decode cX7_reached 48 = .ok (.iconst 1, 1) := dk_4 (dk_at dksX7_reached_2 1 rfl rfl)
theorem dX7_reached_49 : decode cX7_reached 49 = .ok (.invokevirtual 639, 3) := dk_182 2 127 (dk_at dksX7_reached_2 2 rfl rfl)
theorem dX7_reached_52 : decode cX7_reached 52 = .ok (.ireturn, 1) := dk_172 (dk_at dksX7_reached_2 5 rfl rfl)
theorem dX7_reached_53 : decode cX7_reached 53 = .ok (.iconst 0, 1) := dk_3 (dk_at dksX7_reached_2 6 rfl rfl)
theorem dX7_reached_54 : decode cX7_reached 54 = .ok (.istore_n 3, 1) := dk_62 (dk_at dksX7_reached_2 7 rfl rfl)
theorem dX7_reached_55 : decode cX7_reached 55 = .ok (.iload_n 3, 1) := dk_29 (dk_at dksX7_reached_2 8 rfl rfl)
theorem dX7_reached_56 : decode cX7_reached 56 = .ok (.iload_n 2, 1) := dk_28 (dk_at dksX7_reached_2 9 rfl rfl)
theorem dX7_reached_57 : decode cX7_reached 57 = .ok (.if_icmp .ge 37, 3) := dk_162 0 37 (dk_at dksX7_reached_2 10 rfl rfl)
theorem dX7_reached_60 : decode cX7_reached 60 = .ok (.aload_n 0, 1) := dk_42 (dk_at dksX7_reached_2 13 rfl rfl)
theorem dX7_reached_61 : decode cX7_reached 61 = .ok (.getfield 184, 3) := dk_180 0 184 (dk_at dksX7_reached_2 14 rfl rfl)
theorem dX7_reached_64 : decode cX7_reached 64 = .ok (.iload_n 3, 1) := dk_29 (dk_at dksX7_reached_2 17 rfl rfl)
theorem dX7_reached_65 : decode cX7_reached 65 = .ok (.aload_n 0, 1) := dk_42 (dk_at dksX7_reached_2 18 rfl rfl)
theorem dX7_reached_66 : decode cX7_reached 66 = .ok (.getfield 7, 3) := dk_180 0 7 (dk_at dksX7_reached_2 19 rfl rfl)
theorem dX7_reached_69 : decode cX7_reached 69 = .ok (.iload_n 3, 1) := dk_29 (dk_at dksX7_reached_2 22 rfl rfl)
theorem dX7_reached_70 : decode cX7_reached 70 = .ok (.iaload, 1) := dk_46 (dk_at dksX7_reached_2 23 rfl rfl)
theorem dX7_reached_71 : decode cX7_reached 71 = .ok (.sipush 255, 3) := dk_17 0 255 (dk_at dksX7_reached_3 0 rfl rfl)
theorem dX7_reached_74 : decode cX7_reached 74 = .ok (.if_icmp .ne 7, 3) := dk_160 0 7 (dk_at dksX7_reached_3 3 rfl rfl)
theorem dX7_reached_77 : decode cX7_reached 77 = .ok (.iconst (-1), 1) := dk_2 (dk_at dksX7_reached_3 6 rfl rfl)
theorem dX7_reached_78 : decode cX7_reached 78 = .ok (.goto 9, 3) := dk_167 0 9 (dk_at dksX7_reached_3 7 rfl rfl)
theorem dX7_reached_81 : decode cX7_reached 81 = .ok (.aload_n 0, 1) := dk_42 (dk_at dksX7_reached_3 10 rfl rfl)
theorem dX7_reached_82 : decode cX7_reached 82 = .ok (.getfield 7, 3) := dk_180 0 7 (dk_at dksX7_reached_3 11 rfl rfl)
theorem dX7_reached_85 : decode cX7_reached 85 = .ok (.iload_n 3, 1) := dk_29 (dk_at dksX7_reached_3 14 rfl rfl)
theorem dX7_reached_86 : decode cX7_reached 86 = .ok (.iaload, 1) := dk_46 (dk_at dksX7_reached_3 15 rfl rfl)
theorem dX7_reached_87 : decode cX7_reached 87 = .ok (.iastore, 1) := dk_79 (dk_at dksX7_reached_3 16 rfl rfl)
theorem dX7_reached_88 : decode cX7_reached 88 = .ok (.iinc 3 1, 3) := dk_132 3 1 (dk_at dksX7_reached_3 17 rfl rfl)
theorem dX7_reached_91 : decode cX7_reached 91 = .ok (.goto (-36), 3) := dk_167 255 220 (dk_at dksX7_reached_3 20 rfl rfl)
theorem dX7_reached_94 : decode cX7_reached 94 = .ok (.iload_n 1, 1) := dk_27 (dk_at dksX7_reached_3 23 rfl rfl)
theorem dX7_reached_95 : decode cX7_reached 95 = .ok (.ifCond .ne 10, 3) := dk_154 0 10 (dk_at dksX7_reached_4 0 rfl rfl)
theorem dX7_reached_98 : decode cX7_reached 98 = .ok (.aload_n 0, 1) := dk_42 (dk_at dksX7_reached_4 3 rfl rfl)
theorem dX7_reached_99 : decode cX7_reached 99 = .ok (.invokevirtual 645, 3) := dk_182 2 133 (dk_at dksX7_reached_4 4 rfl rfl)
theorem dX7_reached_102 : decode cX7_reached 102 = .ok (.goto 31, 3) := dk_167 0 31 (dk_at dksX7_reached_4 7 rfl rfl)
theorem dX7_reached_105 : decode cX7_reached 105 = .ok (.iload_n 1, 1) := dk_27 (dk_at dksX7_reached_4 10 rfl rfl)
theorem dX7_reached_106 : decode cX7_reached 106 = .ok (.iconst 1, 1) := dk_4 (dk_at dksX7_reached_4 11 rfl rfl)
theorem dX7_reached_107 : decode cX7_reached 107 = .ok (.if_icmp .ne 10, 3) := dk_160 0 10 (dk_at dksX7_reached_4 12 rfl rfl)
theorem dX7_reached_110 : decode cX7_reached 110 = .ok (.aload_n 0, 1) := dk_42 (dk_at dksX7_reached_4 15 rfl rfl)
theorem dX7_reached_111 : decode cX7_reached 111 = .ok (.invokevirtual 648, 3) := dk_182 2 136 (dk_at dksX7_reached_4 16 rfl rfl)
theorem dX7_reached_114 : decode cX7_reached 114 = .ok (.goto 19, 3) := dk_167 0 19 (dk_at dksX7_reached_4 19 rfl rfl)
theorem dX7_reached_117 : decode cX7_reached 117 = .ok (.iload_n 1, 1) := dk_27 (dk_at dksX7_reached_4 22 rfl rfl)
theorem dX7_reached_118 : decode cX7_reached 118 = .ok (.iconst 2, 1) := dk_5 (dk_at dksX7_reached_4 23 rfl rfl)
theorem dX7_reached_119 : decode cX7_reached 119 = .ok (.if_icmp .ne 10, 3) := dk_160 0 10 (dk_at dksX7_reached_5 0 rfl rfl)
theorem dX7_reached_122 : decode cX7_reached 122 = .ok (.aload_n 0, 1) := dk_42 (dk_at dksX7_reached_5 3 rfl rfl)
theorem dX7_reached_123 : decode cX7_reached 123 = .ok (.invokevirtual 651, 3) := dk_182 2 139 (dk_at dksX7_reached_5 4 rfl rfl)
theorem dX7_reached_126 : decode cX7_reached 126 = .ok (.goto 7, 3) := dk_167 0 7 (dk_at dksX7_reached_5 7 rfl rfl)
theorem dX7_reached_129 : decode cX7_reached 129 = .ok (.aload_n 0, 1) := dk_42 (dk_at dksX7_reached_5 10 rfl rfl)
theorem dX7_reached_130 : decode cX7_reached 130 = .ok (.invokevirtual 657, 3) := dk_182 2 145 (dk_at dksX7_reached_5 11 rfl rfl)
theorem dX7_reached_133 : decode cX7_reached 133 = .ok (.ireturn, 1) := dk_172 (dk_at dksX7_reached_5 14 rfl rfl)
abbrev cX7_areMen : ByteArray := prog_25_method_106_code
def yX7_areMen : MethodName := ⟨RX7, "areMen", "(I)Z"⟩
def dkwX7_areMen_5 : List UInt8 := [21, 4, 160, 0, 5, 3, 172, 132, 5, 1, 167, 255, 212, 132, 2, 1, 167, 255, 129, 4, 172]
abbrev dktX7_areMen_5 : List UInt8 := dkwX7_areMen_5 ++ []
def dkwX7_areMen_4 : List UInt8 := [5, 21, 5, 104, 96, 46, 29, 160, 0, 23, 42, 180, 0, 7, 27, 5, 21, 5, 104, 96, 4, 96, 46]
abbrev dktX7_areMen_4 : List UInt8 := dkwX7_areMen_4 ++ dktX7_areMen_5
def dkwX7_areMen_3 : List UInt8 := [180, 0, 127, 8, 46, 161, 0, 5, 3, 172, 3, 54, 5, 21, 5, 28, 162, 0, 44, 42, 180, 0, 7, 27]
abbrev dktX7_areMen_3 : List UInt8 := dkwX7_areMen_3 ++ dktX7_areMen_4
def dkwX7_areMen_2 : List UInt8 := [17, 0, 255, 160, 0, 6, 167, 0, 76, 29, 42, 180, 0, 127, 7, 46, 162, 0, 14, 21, 4, 42]
abbrev dktX7_areMen_2 : List UInt8 := dkwX7_areMen_2 ++ dktX7_areMen_3
def dkwX7_areMen_1 : List UInt8 := [180, 0, 7, 27, 5, 28, 104, 96, 4, 96, 46, 54, 4, 29, 17, 0, 255, 160, 0, 14, 21, 4]
abbrev dktX7_areMen_1 : List UInt8 := dkwX7_areMen_1 ++ dktX7_areMen_2
def dkwX7_areMen_0 : List UInt8 := [3, 61, 28, 42, 182, 1, 177, 162, 0, 125, 42, 180, 0, 7, 27, 5, 28, 104, 96, 46, 62, 42]
abbrev dktX7_areMen_0 : List UInt8 := dkwX7_areMen_0 ++ dktX7_areMen_1
theorem dksX7_areMen_0 : cX7_areMen.data.toList.drop 0 = dktX7_areMen_0 := by decide +kernel
theorem dksX7_areMen_1 : cX7_areMen.data.toList.drop 22 = dktX7_areMen_1 := dk_seg dksX7_areMen_0 22 rfl rfl
theorem dksX7_areMen_2 : cX7_areMen.data.toList.drop 44 = dktX7_areMen_2 := dk_seg dksX7_areMen_1 22 rfl rfl
theorem dksX7_areMen_3 : cX7_areMen.data.toList.drop 66 = dktX7_areMen_3 := dk_seg dksX7_areMen_2 22 rfl rfl
theorem dksX7_areMen_4 : cX7_areMen.data.toList.drop 90 = dktX7_areMen_4 := dk_seg dksX7_areMen_3 24 rfl rfl
theorem dksX7_areMen_5 : cX7_areMen.data.toList.drop 113 = dktX7_areMen_5 := dk_seg dksX7_areMen_4 23 rfl rfl
theorem dX7_areMen_0 : decode cX7_areMen 0 = .ok (.iconst 0, 1) := dk_3 (dk_at dksX7_areMen_0 0 rfl rfl)
theorem dX7_areMen_1 : decode cX7_areMen 1 = .ok (.istore_n 2, 1) := dk_61 (dk_at dksX7_areMen_0 1 rfl rfl)
theorem dX7_areMen_2 : decode cX7_areMen 2 = .ok (.iload_n 2, 1) := dk_28 (dk_at dksX7_areMen_0 2 rfl rfl)
theorem dX7_areMen_3 : decode cX7_areMen 3 = .ok (.aload_n 0, 1) := dk_42 (dk_at dksX7_areMen_0 3 rfl rfl)
theorem dX7_areMen_4 : decode cX7_areMen 4 = .ok (.invokevirtual 433, 3) := dk_182 1 177 (dk_at dksX7_areMen_0 4 rfl rfl)
theorem dX7_areMen_7 : decode cX7_areMen 7 = .ok (.if_icmp .ge 125, 3) := dk_162 0 125 (dk_at dksX7_areMen_0 7 rfl rfl)
theorem dX7_areMen_10 : decode cX7_areMen 10 = .ok (.aload_n 0, 1) := dk_42 (dk_at dksX7_areMen_0 10 rfl rfl)
theorem dX7_areMen_11 : decode cX7_areMen 11 = .ok (.getfield 7, 3) := dk_180 0 7 (dk_at dksX7_areMen_0 11 rfl rfl)
theorem dX7_areMen_14 : decode cX7_areMen 14 = .ok (.iload_n 1, 1) := dk_27 (dk_at dksX7_areMen_0 14 rfl rfl)
theorem dX7_areMen_15 : decode cX7_areMen 15 = .ok (.iconst 2, 1) := dk_5 (dk_at dksX7_areMen_0 15 rfl rfl)
theorem dX7_areMen_16 : decode cX7_areMen 16 = .ok (.iload_n 2, 1) := dk_28 (dk_at dksX7_areMen_0 16 rfl rfl)
theorem dX7_areMen_17 : decode cX7_areMen 17 = .ok (.imul, 1) := dk_104 (dk_at dksX7_areMen_0 17 rfl rfl)
theorem dX7_areMen_18 : decode cX7_areMen 18 = .ok (.iadd, 1) := dk_96 (dk_at dksX7_areMen_0 18 rfl rfl)
theorem dX7_areMen_19 : decode cX7_areMen 19 = .ok (.iaload, 1) := dk_46 (dk_at dksX7_areMen_0 19 rfl rfl)
theorem dX7_areMen_20 : decode cX7_areMen 20 = .ok (.istore_n 3, 1) := dk_62 (dk_at dksX7_areMen_0 20 rfl rfl)
theorem dX7_areMen_21 : decode cX7_areMen 21 = .ok (.aload_n 0, 1) := dk_42 (dk_at dksX7_areMen_0 21 rfl rfl)
theorem dX7_areMen_22 : decode cX7_areMen 22 = .ok (.getfield 7, 3) := dk_180 0 7 (dk_at dksX7_areMen_1 0 rfl rfl)
theorem dX7_areMen_25 : decode cX7_areMen 25 = .ok (.iload_n 1, 1) := dk_27 (dk_at dksX7_areMen_1 3 rfl rfl)
theorem dX7_areMen_26 : decode cX7_areMen 26 = .ok (.iconst 2, 1) := dk_5 (dk_at dksX7_areMen_1 4 rfl rfl)
theorem dX7_areMen_27 : decode cX7_areMen 27 = .ok (.iload_n 2, 1) := dk_28 (dk_at dksX7_areMen_1 5 rfl rfl)
theorem dX7_areMen_28 : decode cX7_areMen 28 = .ok (.imul, 1) := dk_104 (dk_at dksX7_areMen_1 6 rfl rfl)
theorem dX7_areMen_29 : decode cX7_areMen 29 = .ok (.iadd, 1) := dk_96 (dk_at dksX7_areMen_1 7 rfl rfl)
theorem dX7_areMen_30 : decode cX7_areMen 30 = .ok (.iconst 1, 1) := dk_4 (dk_at dksX7_areMen_1 8 rfl rfl)
theorem dX7_areMen_31 : decode cX7_areMen 31 = .ok (.iadd, 1) := dk_96 (dk_at dksX7_areMen_1 9 rfl rfl)
theorem dX7_areMen_32 : decode cX7_areMen 32 = .ok (.iaload, 1) := dk_46 (dk_at dksX7_areMen_1 10 rfl rfl)
theorem dX7_areMen_33 : decode cX7_areMen 33 = .ok (.istore 4, 2) := dk_54 4 (dk_at dksX7_areMen_1 11 rfl rfl)
theorem dX7_areMen_35 : decode cX7_areMen 35 = .ok (.iload_n 3, 1) := dk_29 (dk_at dksX7_areMen_1 13 rfl rfl)
theorem dX7_areMen_36 : decode cX7_areMen 36 = .ok (.sipush 255, 3) := dk_17 0 255 (dk_at dksX7_areMen_1 14 rfl rfl)
theorem dX7_areMen_39 : decode cX7_areMen 39 = .ok (.if_icmp .ne 14, 3) := dk_160 0 14 (dk_at dksX7_areMen_1 17 rfl rfl)
theorem dX7_areMen_42 : decode cX7_areMen 42 = .ok (.iload 4, 2) := dk_21 4 (dk_at dksX7_areMen_1 20 rfl rfl)
theorem dX7_areMen_44 : decode cX7_areMen 44 = .ok (.sipush 255, 3) := dk_17 0 255 (dk_at dksX7_areMen_2 0 rfl rfl)
theorem dX7_areMen_47 : decode cX7_areMen 47 = .ok (.if_icmp .ne 6, 3) := dk_160 0 6 (dk_at dksX7_areMen_2 3 rfl rfl)
theorem dX7_areMen_50 : decode cX7_areMen 50 = .ok (.goto 76, 3) := dk_167 0 76 (dk_at dksX7_areMen_2 6 rfl rfl)
theorem dX7_areMen_53 : decode cX7_areMen 53 = .ok (.iload_n 3, 1) := dk_29 (dk_at dksX7_areMen_2 9 rfl rfl)
theorem dX7_areMen_54 : decode cX7_areMen 54 = .ok (.aload_n 0, 1) := dk_42 (dk_at dksX7_areMen_2 10 rfl rfl)
theorem dX7_areMen_55 : decode cX7_areMen 55 = .ok (.getfield 127, 3) := dk_180 0 127 (dk_at dksX7_areMen_2 11 rfl rfl)
theorem dX7_areMen_58 : decode cX7_areMen 58 = .ok (.iconst 4, 1) := dk_7 (dk_at dksX7_areMen_2 14 rfl rfl)
theorem dX7_areMen_59 : decode cX7_areMen 59 = .ok (.iaload, 1) := dk_46 (dk_at dksX7_areMen_2 15 rfl rfl)
theorem dX7_areMen_60 : decode cX7_areMen 60 = .ok (.if_icmp .ge 14, 3) := dk_162 0 14 (dk_at dksX7_areMen_2 16 rfl rfl)
theorem dX7_areMen_63 : decode cX7_areMen 63 = .ok (.iload 4, 2) := dk_21 4 (dk_at dksX7_areMen_2 19 rfl rfl)
theorem dX7_areMen_65 : decode cX7_areMen 65 = .ok (.aload_n 0, 1) := dk_42 (dk_at dksX7_areMen_2 21 rfl rfl)
theorem dX7_areMen_66 : decode cX7_areMen 66 = .ok (.getfield 127, 3) := dk_180 0 127 (dk_at dksX7_areMen_3 0 rfl rfl)
theorem dX7_areMen_69 : decode cX7_areMen 69 = .ok (.iconst 5, 1) := dk_8 (dk_at dksX7_areMen_3 3 rfl rfl)
theorem dX7_areMen_70 : decode cX7_areMen 70 = .ok (.iaload, 1) := dk_46 (dk_at dksX7_areMen_3 4 rfl rfl)
theorem dX7_areMen_71 : decode cX7_areMen 71 = .ok (.if_icmp .lt 5, 3) := dk_161 0 5 (dk_at dksX7_areMen_3 5 rfl rfl)
theorem dX7_areMen_74 : decode cX7_areMen 74 = .ok (.iconst 0, 1) := dk_3 (dk_at dksX7_areMen_3 8 rfl rfl)
theorem dX7_areMen_75 : decode cX7_areMen 75 = .ok (.ireturn, 1) := dk_172 (dk_at dksX7_areMen_3 9 rfl rfl)
theorem dX7_areMen_76 : decode cX7_areMen 76 = .ok (.iconst 0, 1) := dk_3 (dk_at dksX7_areMen_3 10 rfl rfl)
theorem dX7_areMen_77 : decode cX7_areMen 77 = .ok (.istore 5, 2) := dk_54 5 (dk_at dksX7_areMen_3 11 rfl rfl)
theorem dX7_areMen_79 : decode cX7_areMen 79 = .ok (.iload 5, 2) := dk_21 5 (dk_at dksX7_areMen_3 13 rfl rfl)
theorem dX7_areMen_81 : decode cX7_areMen 81 = .ok (.iload_n 2, 1) := dk_28 (dk_at dksX7_areMen_3 15 rfl rfl)
theorem dX7_areMen_82 : decode cX7_areMen 82 = .ok (.if_icmp .ge 44, 3) := dk_162 0 44 (dk_at dksX7_areMen_3 16 rfl rfl)
theorem dX7_areMen_85 : decode cX7_areMen 85 = .ok (.aload_n 0, 1) := dk_42 (dk_at dksX7_areMen_3 19 rfl rfl)
theorem dX7_areMen_86 : decode cX7_areMen 86 = .ok (.getfield 7, 3) := dk_180 0 7 (dk_at dksX7_areMen_3 20 rfl rfl)
theorem dX7_areMen_89 : decode cX7_areMen 89 = .ok (.iload_n 1, 1) := dk_27 (dk_at dksX7_areMen_3 23 rfl rfl)
theorem dX7_areMen_90 : decode cX7_areMen 90 = .ok (.iconst 2, 1) := dk_5 (dk_at dksX7_areMen_4 0 rfl rfl)
theorem dX7_areMen_91 : decode cX7_areMen 91 = .ok (.iload 5, 2) := dk_21 5 (dk_at dksX7_areMen_4 1 rfl rfl)
theorem dX7_areMen_93 : decode cX7_areMen 93 = .ok (.imul, 1) := dk_104 (dk_at dksX7_areMen_4 3 rfl rfl)
theorem dX7_areMen_94 : decode cX7_areMen 94 = .ok (.iadd, 1) := dk_96 (dk_at dksX7_areMen_4 4 rfl rfl)
theorem dX7_areMen_95 : decode cX7_areMen 95 = .ok (.iaload, 1) := dk_46 (dk_at dksX7_areMen_4 5 rfl rfl)
theorem dX7_areMen_96 : decode cX7_areMen 96 = .ok (.iload_n 3, 1) := dk_29 (dk_at dksX7_areMen_4 6 rfl rfl)
theorem dX7_areMen_97 : decode cX7_areMen 97 = .ok (.if_icmp .ne 23, 3) := dk_160 0 23 (dk_at dksX7_areMen_4 7 rfl rfl)
theorem dX7_areMen_100 : decode cX7_areMen 100 = .ok (.aload_n 0, 1) := dk_42 (dk_at dksX7_areMen_4 10 rfl rfl)
theorem dX7_areMen_101 : decode cX7_areMen 101 = .ok (.getfield 7, 3) := dk_180 0 7 (dk_at dksX7_areMen_4 11 rfl rfl)
theorem dX7_areMen_104 : decode cX7_areMen 104 = .ok (.iload_n 1, 1) := dk_27 (dk_at dksX7_areMen_4 14 rfl rfl)
theorem dX7_areMen_105 : decode cX7_areMen 105 = .ok (.iconst 2, 1) := dk_5 (dk_at dksX7_areMen_4 15 rfl rfl)
theorem dX7_areMen_106 : decode cX7_areMen 106 = .ok (.iload 5, 2) := dk_21 5 (dk_at dksX7_areMen_4 16 rfl rfl)
theorem dX7_areMen_108 : decode cX7_areMen 108 = .ok (.imul, 1) := dk_104 (dk_at dksX7_areMen_4 18 rfl rfl)
theorem dX7_areMen_109 : decode cX7_areMen 109 = .ok (.iadd, 1) := dk_96 (dk_at dksX7_areMen_4 19 rfl rfl)
theorem dX7_areMen_110 : decode cX7_areMen 110 = .ok (.iconst 1, 1) := dk_4 (dk_at dksX7_areMen_4 20 rfl rfl)
theorem dX7_areMen_111 : decode cX7_areMen 111 = .ok (.iadd, 1) := dk_96 (dk_at dksX7_areMen_4 21 rfl rfl)
theorem dX7_areMen_112 : decode cX7_areMen 112 = .ok (.iaload, 1) := dk_46 (dk_at dksX7_areMen_4 22 rfl rfl)
theorem dX7_areMen_113 : decode cX7_areMen 113 = .ok (.iload 4, 2) := dk_21 4 (dk_at dksX7_areMen_5 0 rfl rfl)
theorem dX7_areMen_115 : decode cX7_areMen 115 = .ok (.if_icmp .ne 5, 3) := dk_160 0 5 (dk_at dksX7_areMen_5 2 rfl rfl)
theorem dX7_areMen_118 : decode cX7_areMen 118 = .ok (.iconst 0, 1) := dk_3 (dk_at dksX7_areMen_5 5 rfl rfl)
theorem dX7_areMen_119 : decode cX7_areMen 119 = .ok (.ireturn, 1) := dk_172 (dk_at dksX7_areMen_5 6 rfl rfl)
theorem dX7_areMen_120 : decode cX7_areMen 120 = .ok (.iinc 5 1, 3) := dk_132 5 1 (dk_at dksX7_areMen_5 7 rfl rfl)
theorem dX7_areMen_123 : decode cX7_areMen 123 = .ok (.goto (-44), 3) := dk_167 255 212 (dk_at dksX7_areMen_5 10 rfl rfl)
theorem dX7_areMen_126 : decode cX7_areMen 126 = .ok (.iinc 2 1, 3) := dk_132 2 1 (dk_at dksX7_areMen_5 13 rfl rfl)
theorem dX7_areMen_129 : decode cX7_areMen 129 = .ok (.goto (-127), 3) := dk_167 255 129 (dk_at dksX7_areMen_5 16 rfl rfl)
theorem dX7_areMen_132 : decode cX7_areMen 132 = .ok (.iconst 1, 1) := dk_4 (dk_at dksX7_areMen_5 19 rfl rfl)
theorem dX7_areMen_133 : decode cX7_areMen 133 = .ok (.ireturn, 1) := dk_172 (dk_at dksX7_areMen_5 20 rfl rfl)
abbrev cX7_ways0 : ByteArray := prog_25_method_102_code
def yX7_ways0 : MethodName := ⟨RX7, "ways0", "()I"⟩
def dkwX7_ways0_1 : List UInt8 := [27, 46, 159, 0, 5, 3, 172, 132, 1, 1, 167, 255, 224, 4, 172]
abbrev dktX7_ways0_1 : List UInt8 := dkwX7_ways0_1 ++ []
def dkwX7_ways0_0 : List UInt8 := [3, 60, 27, 5, 42, 182, 1, 177, 104, 162, 0, 28, 42, 180, 0, 154, 5, 27, 96, 46, 42, 180, 0, 184]
abbrev dktX7_ways0_0 : List UInt8 := dkwX7_ways0_0 ++ dktX7_ways0_1
theorem dksX7_ways0_0 : cX7_ways0.data.toList.drop 0 = dktX7_ways0_0 := by decide +kernel
theorem dksX7_ways0_1 : cX7_ways0.data.toList.drop 24 = dktX7_ways0_1 := dk_seg dksX7_ways0_0 24 rfl rfl
theorem dX7_ways0_0 : decode cX7_ways0 0 = .ok (.iconst 0, 1) := dk_3 (dk_at dksX7_ways0_0 0 rfl rfl)
theorem dX7_ways0_1 : decode cX7_ways0 1 = .ok (.istore_n 1, 1) := dk_60 (dk_at dksX7_ways0_0 1 rfl rfl)
theorem dX7_ways0_2 : decode cX7_ways0 2 = .ok (.iload_n 1, 1) := dk_27 (dk_at dksX7_ways0_0 2 rfl rfl)
theorem dX7_ways0_3 : decode cX7_ways0 3 = .ok (.iconst 2, 1) := dk_5 (dk_at dksX7_ways0_0 3 rfl rfl)
theorem dX7_ways0_4 : decode cX7_ways0 4 = .ok (.aload_n 0, 1) := dk_42 (dk_at dksX7_ways0_0 4 rfl rfl)
theorem dX7_ways0_5 : decode cX7_ways0 5 = .ok (.invokevirtual 433, 3) := dk_182 1 177 (dk_at dksX7_ways0_0 5 rfl rfl)
theorem dX7_ways0_8 : decode cX7_ways0 8 = .ok (.imul, 1) := dk_104 (dk_at dksX7_ways0_0 8 rfl rfl)
theorem dX7_ways0_9 : decode cX7_ways0 9 = .ok (.if_icmp .ge 28, 3) := dk_162 0 28 (dk_at dksX7_ways0_0 9 rfl rfl)
theorem dX7_ways0_12 : decode cX7_ways0 12 = .ok (.aload_n 0, 1) := dk_42 (dk_at dksX7_ways0_0 12 rfl rfl)
theorem dX7_ways0_13 : decode cX7_ways0 13 = .ok (.getfield 154, 3) := dk_180 0 154 (dk_at dksX7_ways0_0 13 rfl rfl)
theorem dX7_ways0_16 : decode cX7_ways0 16 = .ok (.iconst 2, 1) := dk_5 (dk_at dksX7_ways0_0 16 rfl rfl)
theorem dX7_ways0_17 : decode cX7_ways0 17 = .ok (.iload_n 1, 1) := dk_27 (dk_at dksX7_ways0_0 17 rfl rfl)
theorem dX7_ways0_18 : decode cX7_ways0 18 = .ok (.iadd, 1) := dk_96 (dk_at dksX7_ways0_0 18 rfl rfl)
theorem dX7_ways0_19 : decode cX7_ways0 19 = .ok (.iaload, 1) := dk_46 (dk_at dksX7_ways0_0 19 rfl rfl)
theorem dX7_ways0_20 : decode cX7_ways0 20 = .ok (.aload_n 0, 1) := dk_42 (dk_at dksX7_ways0_0 20 rfl rfl)
theorem dX7_ways0_21 : decode cX7_ways0 21 = .ok (.getfield 184, 3) := dk_180 0 184 (dk_at dksX7_ways0_0 21 rfl rfl)
theorem dX7_ways0_24 : decode cX7_ways0 24 = .ok (.iload_n 1, 1) := dk_27 (dk_at dksX7_ways0_1 0 rfl rfl)
theorem dX7_ways0_25 : decode cX7_ways0 25 = .ok (.iaload, 1) := dk_46 (dk_at dksX7_ways0_1 1 rfl rfl)
theorem dX7_ways0_26 : decode cX7_ways0 26 = .ok (.if_icmp .eq 5, 3) := dk_159 0 5 (dk_at dksX7_ways0_1 2 rfl rfl)
theorem dX7_ways0_29 : decode cX7_ways0 29 = .ok (.iconst 0, 1) := dk_3 (dk_at dksX7_ways0_1 5 rfl rfl)
theorem dX7_ways0_30 : decode cX7_ways0 30 = .ok (.ireturn, 1) := dk_172 (dk_at dksX7_ways0_1 6 rfl rfl)
theorem dX7_ways0_31 : decode cX7_ways0 31 = .ok (.iinc 1 1, 3) := dk_132 1 1 (dk_at dksX7_ways0_1 7 rfl rfl)
theorem dX7_ways0_34 : decode cX7_ways0 34 = .ok (.goto (-32), 3) := dk_167 255 224 (dk_at dksX7_ways0_1 10 rfl rfl)
theorem dX7_ways0_37 : decode cX7_ways0 37 = .ok (.iconst 1, 1) := dk_4 (dk_at dksX7_ways0_1 13 rfl rfl)
theorem dX7_ways0_38 : decode cX7_ways0 38 = .ok (.ireturn, 1) := dk_172 (dk_at dksX7_ways0_1 14 rfl rfl)
abbrev cX7_ways1 : ByteArray := prog_25_method_103_code
def yX7_ways1 : MethodName := ⟨RX7, "ways1", "()I"⟩
def dkwX7_ways1_3 : List UInt8 := [4, 182, 1, 247, 132, 3, 1, 167, 255, 200, 132, 2, 1, 167, 255, 184, 27, 172]
abbrev dktX7_ways1_3 : List UInt8 := dkwX7_ways1_3 ++ []
def dkwX7_ways1_2 : List UInt8 := [182, 1, 218, 154, 0, 6, 167, 0, 22, 42, 4, 28, 29, 182, 1, 240, 27, 42, 182, 2, 133, 96, 60, 42]
abbrev dktX7_ways1_2 : List UInt8 := dkwX7_ways1_2 ++ dktX7_ways1_3
def dkwX7_ways1_1 : List UInt8 := [42, 182, 1, 215, 162, 0, 54, 42, 28, 182, 1, 212, 42, 180, 0, 154, 4, 46, 160, 0, 34, 42, 28, 29]
abbrev dktX7_ways1_1 : List UInt8 := dkwX7_ways1_1 ++ dktX7_ways1_2
def dkwX7_ways1_0 : List UInt8 := [3, 60, 42, 182, 1, 228, 153, 0, 5, 3, 172, 3, 61, 28, 42, 182, 1, 177, 162, 0, 70, 3, 62, 29]
abbrev dktX7_ways1_0 : List UInt8 := dkwX7_ways1_0 ++ dktX7_ways1_1
theorem dksX7_ways1_0 : cX7_ways1.data.toList.drop 0 = dktX7_ways1_0 := by decide +kernel
theorem dksX7_ways1_1 : cX7_ways1.data.toList.drop 24 = dktX7_ways1_1 := dk_seg dksX7_ways1_0 24 rfl rfl
theorem dksX7_ways1_2 : cX7_ways1.data.toList.drop 48 = dktX7_ways1_2 := dk_seg dksX7_ways1_1 24 rfl rfl
theorem dksX7_ways1_3 : cX7_ways1.data.toList.drop 72 = dktX7_ways1_3 := dk_seg dksX7_ways1_2 24 rfl rfl
theorem dX7_ways1_0 : decode cX7_ways1 0 = .ok (.iconst 0, 1) := dk_3 (dk_at dksX7_ways1_0 0 rfl rfl)
theorem dX7_ways1_1 : decode cX7_ways1 1 = .ok (.istore_n 1, 1) := dk_60 (dk_at dksX7_ways1_0 1 rfl rfl)
theorem dX7_ways1_2 : decode cX7_ways1 2 = .ok (.aload_n 0, 1) := dk_42 (dk_at dksX7_ways1_0 2 rfl rfl)
theorem dX7_ways1_3 : decode cX7_ways1 3 = .ok (.invokevirtual 484, 3) := dk_182 1 228 (dk_at dksX7_ways1_0 3 rfl rfl)
theorem dX7_ways1_6 : decode cX7_ways1 6 = .ok (.ifCond .eq 5, 3) := dk_153 0 5 (dk_at dksX7_ways1_0 6 rfl rfl)
theorem dX7_ways1_9 : decode cX7_ways1 9 = .ok (.iconst 0, 1) := dk_3 (dk_at dksX7_ways1_0 9 rfl rfl)
theorem dX7_ways1_10 : decode cX7_ways1 10 = .ok (.ireturn, 1) := dk_172 (dk_at dksX7_ways1_0 10 rfl rfl)
theorem dX7_ways1_11 : decode cX7_ways1 11 = .ok (.iconst 0, 1) := dk_3 (dk_at dksX7_ways1_0 11 rfl rfl)
theorem dX7_ways1_12 : decode cX7_ways1 12 = .ok (.istore_n 2, 1) := dk_61 (dk_at dksX7_ways1_0 12 rfl rfl)
theorem dX7_ways1_13 : decode cX7_ways1 13 = .ok (.iload_n 2, 1) := dk_28 (dk_at dksX7_ways1_0 13 rfl rfl)
theorem dX7_ways1_14 : decode cX7_ways1 14 = .ok (.aload_n 0, 1) := dk_42 (dk_at dksX7_ways1_0 14 rfl rfl)
theorem dX7_ways1_15 : decode cX7_ways1 15 = .ok (.invokevirtual 433, 3) := dk_182 1 177 (dk_at dksX7_ways1_0 15 rfl rfl)
theorem dX7_ways1_18 : decode cX7_ways1 18 = .ok (.if_icmp .ge 70, 3) := dk_162 0 70 (dk_at dksX7_ways1_0 18 rfl rfl)
theorem dX7_ways1_21 : decode cX7_ways1 21 = .ok (.iconst 0, 1) := dk_3 (dk_at dksX7_ways1_0 21 rfl rfl)
theorem dX7_ways1_22 : decode cX7_ways1 22 = .ok (.istore_n 3, 1) := dk_62 (dk_at dksX7_ways1_0 22 rfl rfl)
theorem dX7_ways1_23 : decode cX7_ways1 23 = .ok (.iload_n 3, 1) := dk_29 (dk_at dksX7_ways1_0 23 rfl rfl)
theorem dX7_ways1_24 : decode cX7_ways1 24 = .ok (.aload_n 0, 1) := dk_42 (dk_at dksX7_ways1_1 0 rfl rfl)
theorem dX7_ways1_25 : decode cX7_ways1 25 = .ok (.invokevirtual 471, 3) := dk_182 1 215 (dk_at dksX7_ways1_1 1 rfl rfl)
theorem dX7_ways1_28 : decode cX7_ways1 28 = .ok (.if_icmp .ge 54, 3) := dk_162 0 54 (dk_at dksX7_ways1_1 4 rfl rfl)
theorem dX7_ways1_31 : decode cX7_ways1 31 = .ok (.aload_n 0, 1) := dk_42 (dk_at dksX7_ways1_1 7 rfl rfl)
theorem dX7_ways1_32 : decode cX7_ways1 32 = .ok (.iload_n 2, 1) := dk_28 (dk_at dksX7_ways1_1 8 rfl rfl)
theorem dX7_ways1_33 : decode cX7_ways1 33 = .ok (.invokevirtual 468, 3) := dk_182 1 212 (dk_at dksX7_ways1_1 9 rfl rfl)
theorem dX7_ways1_36 : decode cX7_ways1 36 = .ok (.aload_n 0, 1) := dk_42 (dk_at dksX7_ways1_1 12 rfl rfl)
theorem dX7_ways1_37 : decode cX7_ways1 37 = .ok (.getfield 154, 3) := dk_180 0 154 (dk_at dksX7_ways1_1 13 rfl rfl)
theorem dX7_ways1_40 : decode cX7_ways1 40 = .ok (.iconst 1, 1) := dk_4 (dk_at dksX7_ways1_1 16 rfl rfl)
theorem dX7_ways1_41 : decode cX7_ways1 41 = .ok (.iaload, 1) := dk_46 (dk_at dksX7_ways1_1 17 rfl rfl)
theorem dX7_ways1_42 : decode cX7_ways1 42 = .ok (.if_icmp .ne 34, 3) := dk_160 0 34 (dk_at dksX7_ways1_1 18 rfl rfl)
theorem dX7_ways1_45 : decode cX7_ways1 45 = .ok (.aload_n 0, 1) := dk_42 (dk_at dksX7_ways1_1 21 rfl rfl)
theorem dX7_ways1_46 : decode cX7_ways1 46 = .ok (.iload_n 2, 1) := dk_28 (dk_at dksX7_ways1_1 22 rfl rfl)
theorem dX7_ways1_47 : decode cX7_ways1 47 = .ok (.iload_n 3, 1) := dk_29 (dk_at dksX7_ways1_1 23 rfl rfl)
theorem dX7_ways1_48 : decode cX7_ways1 48 = .ok (.invokevirtual 474, 3) := dk_182 1 218 (dk_at dksX7_ways1_2 0 rfl rfl)
theorem dX7_ways1_51 : decode cX7_ways1 51 = .ok (.ifCond .ne 6, 3) := dk_154 0 6 (dk_at dksX7_ways1_2 3 rfl rfl)
theorem dX7_ways1_54 : decode cX7_ways1 54 = .ok (.goto 22, 3) := dk_167 0 22 (dk_at dksX7_ways1_2 6 rfl rfl)
theorem dX7_ways1_57 : decode cX7_ways1 57 = .ok (.aload_n 0, 1) := dk_42 (dk_at dksX7_ways1_2 9 rfl rfl)
theorem dX7_ways1_58 : decode cX7_ways1 58 = .ok (.iconst 1, 1) := dk_4 (dk_at dksX7_ways1_2 10 rfl rfl)
theorem dX7_ways1_59 : decode cX7_ways1 59 = .ok (.iload_n 2, 1) := dk_28 (dk_at dksX7_ways1_2 11 rfl rfl)
theorem dX7_ways1_60 : decode cX7_ways1 60 = .ok (.iload_n 3, 1) := dk_29 (dk_at dksX7_ways1_2 12 rfl rfl)
theorem dX7_ways1_61 : decode cX7_ways1 61 = .ok (.invokevirtual 496, 3) := dk_182 1 240 (dk_at dksX7_ways1_2 13 rfl rfl)
theorem dX7_ways1_64 : decode cX7_ways1 64 = .ok (.iload_n 1, 1) := dk_27 (dk_at dksX7_ways1_2 16 rfl rfl)
theorem dX7_ways1_65 : decode cX7_ways1 65 = .ok (.aload_n 0, 1) := dk_42 (dk_at dksX7_ways1_2 17 rfl rfl)
theorem dX7_ways1_66 : decode cX7_ways1 66 = .ok (.invokevirtual 645, 3) := dk_182 2 133 (dk_at dksX7_ways1_2 18 rfl rfl)
theorem dX7_ways1_69 : decode cX7_ways1 69 = .ok (.iadd, 1) := dk_96 (dk_at dksX7_ways1_2 21 rfl rfl)
theorem dX7_ways1_70 : decode cX7_ways1 70 = .ok (.istore_n 1, 1) := dk_60 (dk_at dksX7_ways1_2 22 rfl rfl)
theorem dX7_ways1_71 : decode cX7_ways1 71 = .ok (.aload_n 0, 1) := dk_42 (dk_at dksX7_ways1_2 23 rfl rfl)
theorem dX7_ways1_72 : decode cX7_ways1 72 = .ok (.iconst 1, 1) := dk_4 (dk_at dksX7_ways1_3 0 rfl rfl)
theorem dX7_ways1_73 : decode cX7_ways1 73 = .ok (.invokevirtual 503, 3) := dk_182 1 247 (dk_at dksX7_ways1_3 1 rfl rfl)
theorem dX7_ways1_76 : decode cX7_ways1 76 = .ok (.iinc 3 1, 3) := dk_132 3 1 (dk_at dksX7_ways1_3 4 rfl rfl)
theorem dX7_ways1_79 : decode cX7_ways1 79 = .ok (.goto (-56), 3) := dk_167 255 200 (dk_at dksX7_ways1_3 7 rfl rfl)
theorem dX7_ways1_82 : decode cX7_ways1 82 = .ok (.iinc 2 1, 3) := dk_132 2 1 (dk_at dksX7_ways1_3 10 rfl rfl)
theorem dX7_ways1_85 : decode cX7_ways1 85 = .ok (.goto (-72), 3) := dk_167 255 184 (dk_at dksX7_ways1_3 13 rfl rfl)
theorem dX7_ways1_88 : decode cX7_ways1 88 = .ok (.iload_n 1, 1) := dk_27 (dk_at dksX7_ways1_3 16 rfl rfl)
theorem dX7_ways1_89 : decode cX7_ways1 89 = .ok (.ireturn, 1) := dk_172 (dk_at dksX7_ways1_3 17 rfl rfl)
abbrev cX7_ways2 : ByteArray := prog_25_method_104_code
def yX7_ways2 : MethodName := ⟨RX7, "ways2", "()I"⟩
def dkwX7_ways2_3 : List UInt8 := [5, 182, 1, 247, 132, 3, 1, 167, 255, 200, 132, 2, 1, 167, 255, 184, 27, 172]
abbrev dktX7_ways2_3 : List UInt8 := dkwX7_ways2_3 ++ []
def dkwX7_ways2_2 : List UInt8 := [182, 1, 218, 154, 0, 6, 167, 0, 22, 42, 5, 28, 29, 182, 1, 240, 27, 42, 182, 2, 136, 96, 60, 42]
abbrev dktX7_ways2_2 : List UInt8 := dkwX7_ways2_2 ++ dktX7_ways2_3
def dkwX7_ways2_1 : List UInt8 := [42, 182, 1, 215, 162, 0, 54, 42, 28, 182, 1, 212, 42, 180, 0, 154, 4, 46, 160, 0, 34, 42, 28, 29]
abbrev dktX7_ways2_1 : List UInt8 := dkwX7_ways2_1 ++ dktX7_ways2_2
def dkwX7_ways2_0 : List UInt8 := [3, 60, 42, 182, 1, 228, 153, 0, 5, 3, 172, 3, 61, 28, 42, 182, 1, 177, 162, 0, 70, 3, 62, 29]
abbrev dktX7_ways2_0 : List UInt8 := dkwX7_ways2_0 ++ dktX7_ways2_1
theorem dksX7_ways2_0 : cX7_ways2.data.toList.drop 0 = dktX7_ways2_0 := by decide +kernel
theorem dksX7_ways2_1 : cX7_ways2.data.toList.drop 24 = dktX7_ways2_1 := dk_seg dksX7_ways2_0 24 rfl rfl
theorem dksX7_ways2_2 : cX7_ways2.data.toList.drop 48 = dktX7_ways2_2 := dk_seg dksX7_ways2_1 24 rfl rfl
theorem dksX7_ways2_3 : cX7_ways2.data.toList.drop 72 = dktX7_ways2_3 := dk_seg dksX7_ways2_2 24 rfl rfl
theorem dX7_ways2_0 : decode cX7_ways2 0 = .ok (.iconst 0, 1) := dk_3 (dk_at dksX7_ways2_0 0 rfl rfl)
theorem dX7_ways2_1 : decode cX7_ways2 1 = .ok (.istore_n 1, 1) := dk_60 (dk_at dksX7_ways2_0 1 rfl rfl)
theorem dX7_ways2_2 : decode cX7_ways2 2 = .ok (.aload_n 0, 1) := dk_42 (dk_at dksX7_ways2_0 2 rfl rfl)
theorem dX7_ways2_3 : decode cX7_ways2 3 = .ok (.invokevirtual 484, 3) := dk_182 1 228 (dk_at dksX7_ways2_0 3 rfl rfl)
theorem dX7_ways2_6 : decode cX7_ways2 6 = .ok (.ifCond .eq 5, 3) := dk_153 0 5 (dk_at dksX7_ways2_0 6 rfl rfl)
theorem dX7_ways2_9 : decode cX7_ways2 9 = .ok (.iconst 0, 1) := dk_3 (dk_at dksX7_ways2_0 9 rfl rfl)
theorem dX7_ways2_10 : decode cX7_ways2 10 = .ok (.ireturn, 1) := dk_172 (dk_at dksX7_ways2_0 10 rfl rfl)
theorem dX7_ways2_11 : decode cX7_ways2 11 = .ok (.iconst 0, 1) := dk_3 (dk_at dksX7_ways2_0 11 rfl rfl)
theorem dX7_ways2_12 : decode cX7_ways2 12 = .ok (.istore_n 2, 1) := dk_61 (dk_at dksX7_ways2_0 12 rfl rfl)
theorem dX7_ways2_13 : decode cX7_ways2 13 = .ok (.iload_n 2, 1) := dk_28 (dk_at dksX7_ways2_0 13 rfl rfl)
theorem dX7_ways2_14 : decode cX7_ways2 14 = .ok (.aload_n 0, 1) := dk_42 (dk_at dksX7_ways2_0 14 rfl rfl)
theorem dX7_ways2_15 : decode cX7_ways2 15 = .ok (.invokevirtual 433, 3) := dk_182 1 177 (dk_at dksX7_ways2_0 15 rfl rfl)
theorem dX7_ways2_18 : decode cX7_ways2 18 = .ok (.if_icmp .ge 70, 3) := dk_162 0 70 (dk_at dksX7_ways2_0 18 rfl rfl)
theorem dX7_ways2_21 : decode cX7_ways2 21 = .ok (.iconst 0, 1) := dk_3 (dk_at dksX7_ways2_0 21 rfl rfl)
theorem dX7_ways2_22 : decode cX7_ways2 22 = .ok (.istore_n 3, 1) := dk_62 (dk_at dksX7_ways2_0 22 rfl rfl)
theorem dX7_ways2_23 : decode cX7_ways2 23 = .ok (.iload_n 3, 1) := dk_29 (dk_at dksX7_ways2_0 23 rfl rfl)
theorem dX7_ways2_24 : decode cX7_ways2 24 = .ok (.aload_n 0, 1) := dk_42 (dk_at dksX7_ways2_1 0 rfl rfl)
theorem dX7_ways2_25 : decode cX7_ways2 25 = .ok (.invokevirtual 471, 3) := dk_182 1 215 (dk_at dksX7_ways2_1 1 rfl rfl)
theorem dX7_ways2_28 : decode cX7_ways2 28 = .ok (.if_icmp .ge 54, 3) := dk_162 0 54 (dk_at dksX7_ways2_1 4 rfl rfl)
theorem dX7_ways2_31 : decode cX7_ways2 31 = .ok (.aload_n 0, 1) := dk_42 (dk_at dksX7_ways2_1 7 rfl rfl)
theorem dX7_ways2_32 : decode cX7_ways2 32 = .ok (.iload_n 2, 1) := dk_28 (dk_at dksX7_ways2_1 8 rfl rfl)
theorem dX7_ways2_33 : decode cX7_ways2 33 = .ok (.invokevirtual 468, 3) := dk_182 1 212 (dk_at dksX7_ways2_1 9 rfl rfl)
theorem dX7_ways2_36 : decode cX7_ways2 36 = .ok (.aload_n 0, 1) := dk_42 (dk_at dksX7_ways2_1 12 rfl rfl)
theorem dX7_ways2_37 : decode cX7_ways2 37 = .ok (.getfield 154, 3) := dk_180 0 154 (dk_at dksX7_ways2_1 13 rfl rfl)
theorem dX7_ways2_40 : decode cX7_ways2 40 = .ok (.iconst 1, 1) := dk_4 (dk_at dksX7_ways2_1 16 rfl rfl)
theorem dX7_ways2_41 : decode cX7_ways2 41 = .ok (.iaload, 1) := dk_46 (dk_at dksX7_ways2_1 17 rfl rfl)
theorem dX7_ways2_42 : decode cX7_ways2 42 = .ok (.if_icmp .ne 34, 3) := dk_160 0 34 (dk_at dksX7_ways2_1 18 rfl rfl)
theorem dX7_ways2_45 : decode cX7_ways2 45 = .ok (.aload_n 0, 1) := dk_42 (dk_at dksX7_ways2_1 21 rfl rfl)
theorem dX7_ways2_46 : decode cX7_ways2 46 = .ok (.iload_n 2, 1) := dk_28 (dk_at dksX7_ways2_1 22 rfl rfl)
theorem dX7_ways2_47 : decode cX7_ways2 47 = .ok (.iload_n 3, 1) := dk_29 (dk_at dksX7_ways2_1 23 rfl rfl)
theorem dX7_ways2_48 : decode cX7_ways2 48 = .ok (.invokevirtual 474, 3) := dk_182 1 218 (dk_at dksX7_ways2_2 0 rfl rfl)
theorem dX7_ways2_51 : decode cX7_ways2 51 = .ok (.ifCond .ne 6, 3) := dk_154 0 6 (dk_at dksX7_ways2_2 3 rfl rfl)
theorem dX7_ways2_54 : decode cX7_ways2 54 = .ok (.goto 22, 3) := dk_167 0 22 (dk_at dksX7_ways2_2 6 rfl rfl)
theorem dX7_ways2_57 : decode cX7_ways2 57 = .ok (.aload_n 0, 1) := dk_42 (dk_at dksX7_ways2_2 9 rfl rfl)
theorem dX7_ways2_58 : decode cX7_ways2 58 = .ok (.iconst 2, 1) := dk_5 (dk_at dksX7_ways2_2 10 rfl rfl)
theorem dX7_ways2_59 : decode cX7_ways2 59 = .ok (.iload_n 2, 1) := dk_28 (dk_at dksX7_ways2_2 11 rfl rfl)
theorem dX7_ways2_60 : decode cX7_ways2 60 = .ok (.iload_n 3, 1) := dk_29 (dk_at dksX7_ways2_2 12 rfl rfl)
theorem dX7_ways2_61 : decode cX7_ways2 61 = .ok (.invokevirtual 496, 3) := dk_182 1 240 (dk_at dksX7_ways2_2 13 rfl rfl)
theorem dX7_ways2_64 : decode cX7_ways2 64 = .ok (.iload_n 1, 1) := dk_27 (dk_at dksX7_ways2_2 16 rfl rfl)
theorem dX7_ways2_65 : decode cX7_ways2 65 = .ok (.aload_n 0, 1) := dk_42 (dk_at dksX7_ways2_2 17 rfl rfl)
theorem dX7_ways2_66 : decode cX7_ways2 66 = .ok (.invokevirtual 648, 3) := dk_182 2 136 (dk_at dksX7_ways2_2 18 rfl rfl)
theorem dX7_ways2_69 : decode cX7_ways2 69 = .ok (.iadd, 1) := dk_96 (dk_at dksX7_ways2_2 21 rfl rfl)
theorem dX7_ways2_70 : decode cX7_ways2 70 = .ok (.istore_n 1, 1) := dk_60 (dk_at dksX7_ways2_2 22 rfl rfl)
theorem dX7_ways2_71 : decode cX7_ways2 71 = .ok (.aload_n 0, 1) := dk_42 (dk_at dksX7_ways2_2 23 rfl rfl)
theorem dX7_ways2_72 : decode cX7_ways2 72 = .ok (.iconst 2, 1) := dk_5 (dk_at dksX7_ways2_3 0 rfl rfl)
theorem dX7_ways2_73 : decode cX7_ways2 73 = .ok (.invokevirtual 503, 3) := dk_182 1 247 (dk_at dksX7_ways2_3 1 rfl rfl)
theorem dX7_ways2_76 : decode cX7_ways2 76 = .ok (.iinc 3 1, 3) := dk_132 3 1 (dk_at dksX7_ways2_3 4 rfl rfl)
theorem dX7_ways2_79 : decode cX7_ways2 79 = .ok (.goto (-56), 3) := dk_167 255 200 (dk_at dksX7_ways2_3 7 rfl rfl)
theorem dX7_ways2_82 : decode cX7_ways2 82 = .ok (.iinc 2 1, 3) := dk_132 2 1 (dk_at dksX7_ways2_3 10 rfl rfl)
theorem dX7_ways2_85 : decode cX7_ways2 85 = .ok (.goto (-72), 3) := dk_167 255 184 (dk_at dksX7_ways2_3 13 rfl rfl)
theorem dX7_ways2_88 : decode cX7_ways2 88 = .ok (.iload_n 1, 1) := dk_27 (dk_at dksX7_ways2_3 16 rfl rfl)
theorem dX7_ways2_89 : decode cX7_ways2 89 = .ok (.ireturn, 1) := dk_172 (dk_at dksX7_ways2_3 17 rfl rfl)
abbrev cX7_ways3 : ByteArray := prog_25_method_105_code
def yX7_ways3 : MethodName := ⟨RX7, "ways3", "()I"⟩
def dkwX7_ways3_3 : List UInt8 := [6, 182, 1, 247, 132, 3, 1, 167, 255, 200, 132, 2, 1, 167, 255, 184, 27, 172]
abbrev dktX7_ways3_3 : List UInt8 := dkwX7_ways3_3 ++ []
def dkwX7_ways3_2 : List UInt8 := [182, 1, 218, 154, 0, 6, 167, 0, 22, 42, 6, 28, 29, 182, 1, 240, 27, 42, 182, 2, 139, 96, 60, 42]
abbrev dktX7_ways3_2 : List UInt8 := dkwX7_ways3_2 ++ dktX7_ways3_3
def dkwX7_ways3_1 : List UInt8 := [42, 182, 1, 215, 162, 0, 54, 42, 28, 182, 1, 212, 42, 180, 0, 154, 4, 46, 160, 0, 34, 42, 28, 29]
abbrev dktX7_ways3_1 : List UInt8 := dkwX7_ways3_1 ++ dktX7_ways3_2
def dkwX7_ways3_0 : List UInt8 := [3, 60, 42, 182, 1, 228, 153, 0, 5, 3, 172, 3, 61, 28, 42, 182, 1, 177, 162, 0, 70, 3, 62, 29]
abbrev dktX7_ways3_0 : List UInt8 := dkwX7_ways3_0 ++ dktX7_ways3_1
theorem dksX7_ways3_0 : cX7_ways3.data.toList.drop 0 = dktX7_ways3_0 := by decide +kernel
theorem dksX7_ways3_1 : cX7_ways3.data.toList.drop 24 = dktX7_ways3_1 := dk_seg dksX7_ways3_0 24 rfl rfl
theorem dksX7_ways3_2 : cX7_ways3.data.toList.drop 48 = dktX7_ways3_2 := dk_seg dksX7_ways3_1 24 rfl rfl
theorem dksX7_ways3_3 : cX7_ways3.data.toList.drop 72 = dktX7_ways3_3 := dk_seg dksX7_ways3_2 24 rfl rfl
theorem dX7_ways3_0 : decode cX7_ways3 0 = .ok (.iconst 0, 1) := dk_3 (dk_at dksX7_ways3_0 0 rfl rfl)
theorem dX7_ways3_1 : decode cX7_ways3 1 = .ok (.istore_n 1, 1) := dk_60 (dk_at dksX7_ways3_0 1 rfl rfl)
theorem dX7_ways3_2 : decode cX7_ways3 2 = .ok (.aload_n 0, 1) := dk_42 (dk_at dksX7_ways3_0 2 rfl rfl)
theorem dX7_ways3_3 : decode cX7_ways3 3 = .ok (.invokevirtual 484, 3) := dk_182 1 228 (dk_at dksX7_ways3_0 3 rfl rfl)
theorem dX7_ways3_6 : decode cX7_ways3 6 = .ok (.ifCond .eq 5, 3) := dk_153 0 5 (dk_at dksX7_ways3_0 6 rfl rfl)
theorem dX7_ways3_9 : decode cX7_ways3 9 = .ok (.iconst 0, 1) := dk_3 (dk_at dksX7_ways3_0 9 rfl rfl)
theorem dX7_ways3_10 : decode cX7_ways3 10 = .ok (.ireturn, 1) := dk_172 (dk_at dksX7_ways3_0 10 rfl rfl)
theorem dX7_ways3_11 : decode cX7_ways3 11 = .ok (.iconst 0, 1) := dk_3 (dk_at dksX7_ways3_0 11 rfl rfl)
theorem dX7_ways3_12 : decode cX7_ways3 12 = .ok (.istore_n 2, 1) := dk_61 (dk_at dksX7_ways3_0 12 rfl rfl)
theorem dX7_ways3_13 : decode cX7_ways3 13 = .ok (.iload_n 2, 1) := dk_28 (dk_at dksX7_ways3_0 13 rfl rfl)
theorem dX7_ways3_14 : decode cX7_ways3 14 = .ok (.aload_n 0, 1) := dk_42 (dk_at dksX7_ways3_0 14 rfl rfl)
theorem dX7_ways3_15 : decode cX7_ways3 15 = .ok (.invokevirtual 433, 3) := dk_182 1 177 (dk_at dksX7_ways3_0 15 rfl rfl)
theorem dX7_ways3_18 : decode cX7_ways3 18 = .ok (.if_icmp .ge 70, 3) := dk_162 0 70 (dk_at dksX7_ways3_0 18 rfl rfl)
theorem dX7_ways3_21 : decode cX7_ways3 21 = .ok (.iconst 0, 1) := dk_3 (dk_at dksX7_ways3_0 21 rfl rfl)
theorem dX7_ways3_22 : decode cX7_ways3 22 = .ok (.istore_n 3, 1) := dk_62 (dk_at dksX7_ways3_0 22 rfl rfl)
theorem dX7_ways3_23 : decode cX7_ways3 23 = .ok (.iload_n 3, 1) := dk_29 (dk_at dksX7_ways3_0 23 rfl rfl)
theorem dX7_ways3_24 : decode cX7_ways3 24 = .ok (.aload_n 0, 1) := dk_42 (dk_at dksX7_ways3_1 0 rfl rfl)
theorem dX7_ways3_25 : decode cX7_ways3 25 = .ok (.invokevirtual 471, 3) := dk_182 1 215 (dk_at dksX7_ways3_1 1 rfl rfl)
theorem dX7_ways3_28 : decode cX7_ways3 28 = .ok (.if_icmp .ge 54, 3) := dk_162 0 54 (dk_at dksX7_ways3_1 4 rfl rfl)
theorem dX7_ways3_31 : decode cX7_ways3 31 = .ok (.aload_n 0, 1) := dk_42 (dk_at dksX7_ways3_1 7 rfl rfl)
theorem dX7_ways3_32 : decode cX7_ways3 32 = .ok (.iload_n 2, 1) := dk_28 (dk_at dksX7_ways3_1 8 rfl rfl)
theorem dX7_ways3_33 : decode cX7_ways3 33 = .ok (.invokevirtual 468, 3) := dk_182 1 212 (dk_at dksX7_ways3_1 9 rfl rfl)
theorem dX7_ways3_36 : decode cX7_ways3 36 = .ok (.aload_n 0, 1) := dk_42 (dk_at dksX7_ways3_1 12 rfl rfl)
theorem dX7_ways3_37 : decode cX7_ways3 37 = .ok (.getfield 154, 3) := dk_180 0 154 (dk_at dksX7_ways3_1 13 rfl rfl)
theorem dX7_ways3_40 : decode cX7_ways3 40 = .ok (.iconst 1, 1) := dk_4 (dk_at dksX7_ways3_1 16 rfl rfl)
theorem dX7_ways3_41 : decode cX7_ways3 41 = .ok (.iaload, 1) := dk_46 (dk_at dksX7_ways3_1 17 rfl rfl)
theorem dX7_ways3_42 : decode cX7_ways3 42 = .ok (.if_icmp .ne 34, 3) := dk_160 0 34 (dk_at dksX7_ways3_1 18 rfl rfl)
theorem dX7_ways3_45 : decode cX7_ways3 45 = .ok (.aload_n 0, 1) := dk_42 (dk_at dksX7_ways3_1 21 rfl rfl)
theorem dX7_ways3_46 : decode cX7_ways3 46 = .ok (.iload_n 2, 1) := dk_28 (dk_at dksX7_ways3_1 22 rfl rfl)
theorem dX7_ways3_47 : decode cX7_ways3 47 = .ok (.iload_n 3, 1) := dk_29 (dk_at dksX7_ways3_1 23 rfl rfl)
theorem dX7_ways3_48 : decode cX7_ways3 48 = .ok (.invokevirtual 474, 3) := dk_182 1 218 (dk_at dksX7_ways3_2 0 rfl rfl)
theorem dX7_ways3_51 : decode cX7_ways3 51 = .ok (.ifCond .ne 6, 3) := dk_154 0 6 (dk_at dksX7_ways3_2 3 rfl rfl)
theorem dX7_ways3_54 : decode cX7_ways3 54 = .ok (.goto 22, 3) := dk_167 0 22 (dk_at dksX7_ways3_2 6 rfl rfl)
theorem dX7_ways3_57 : decode cX7_ways3 57 = .ok (.aload_n 0, 1) := dk_42 (dk_at dksX7_ways3_2 9 rfl rfl)
theorem dX7_ways3_58 : decode cX7_ways3 58 = .ok (.iconst 3, 1) := dk_6 (dk_at dksX7_ways3_2 10 rfl rfl)
theorem dX7_ways3_59 : decode cX7_ways3 59 = .ok (.iload_n 2, 1) := dk_28 (dk_at dksX7_ways3_2 11 rfl rfl)
theorem dX7_ways3_60 : decode cX7_ways3 60 = .ok (.iload_n 3, 1) := dk_29 (dk_at dksX7_ways3_2 12 rfl rfl)
theorem dX7_ways3_61 : decode cX7_ways3 61 = .ok (.invokevirtual 496, 3) := dk_182 1 240 (dk_at dksX7_ways3_2 13 rfl rfl)
theorem dX7_ways3_64 : decode cX7_ways3 64 = .ok (.iload_n 1, 1) := dk_27 (dk_at dksX7_ways3_2 16 rfl rfl)
theorem dX7_ways3_65 : decode cX7_ways3 65 = .ok (.aload_n 0, 1) := dk_42 (dk_at dksX7_ways3_2 17 rfl rfl)
theorem dX7_ways3_66 : decode cX7_ways3 66 = .ok (.invokevirtual 651, 3) := dk_182 2 139 (dk_at dksX7_ways3_2 18 rfl rfl)
theorem dX7_ways3_69 : decode cX7_ways3 69 = .ok (.iadd, 1) := dk_96 (dk_at dksX7_ways3_2 21 rfl rfl)
theorem dX7_ways3_70 : decode cX7_ways3 70 = .ok (.istore_n 1, 1) := dk_60 (dk_at dksX7_ways3_2 22 rfl rfl)
theorem dX7_ways3_71 : decode cX7_ways3 71 = .ok (.aload_n 0, 1) := dk_42 (dk_at dksX7_ways3_2 23 rfl rfl)
theorem dX7_ways3_72 : decode cX7_ways3 72 = .ok (.iconst 3, 1) := dk_6 (dk_at dksX7_ways3_3 0 rfl rfl)
theorem dX7_ways3_73 : decode cX7_ways3 73 = .ok (.invokevirtual 503, 3) := dk_182 1 247 (dk_at dksX7_ways3_3 1 rfl rfl)
theorem dX7_ways3_76 : decode cX7_ways3 76 = .ok (.iinc 3 1, 3) := dk_132 3 1 (dk_at dksX7_ways3_3 4 rfl rfl)
theorem dX7_ways3_79 : decode cX7_ways3 79 = .ok (.goto (-56), 3) := dk_167 255 200 (dk_at dksX7_ways3_3 7 rfl rfl)
theorem dX7_ways3_82 : decode cX7_ways3 82 = .ok (.iinc 2 1, 3) := dk_132 2 1 (dk_at dksX7_ways3_3 10 rfl rfl)
theorem dX7_ways3_85 : decode cX7_ways3 85 = .ok (.goto (-72), 3) := dk_167 255 184 (dk_at dksX7_ways3_3 13 rfl rfl)
theorem dX7_ways3_88 : decode cX7_ways3 88 = .ok (.iload_n 1, 1) := dk_27 (dk_at dksX7_ways3_3 16 rfl rfl)
theorem dX7_ways3_89 : decode cX7_ways3 89 = .ok (.ireturn, 1) := dk_172 (dk_at dksX7_ways3_3 17 rfl rfl)
abbrev cX7_undo : ByteArray := prog_25_method_109_code
def yX7_undo : MethodName := ⟨RX7, "undo", "()Z"⟩
def dkwX7_undo_3 : List UInt8 := [181, 2, 148, 42, 89, 180, 1, 171, 4, 100, 181, 1, 171, 4, 172]
abbrev dktX7_undo_3 : List UInt8 := dkwX7_undo_3 ++ []
def dkwX7_undo_2 : List UInt8 := [96, 46, 79, 132, 1, 1, 167, 255, 225, 42, 42, 180, 2, 148, 16, 20, 96, 4, 100, 16, 20, 112]
abbrev dktX7_undo_2 : List UInt8 := dkwX7_undo_2 ++ dktX7_undo_3
def dkwX7_undo_1 : List UInt8 := [17, 0, 225, 162, 0, 30, 42, 180, 0, 154, 27, 42, 180, 0, 187, 17, 0, 225, 42, 180, 2, 148, 104, 27]
abbrev dktX7_undo_1 : List UInt8 := dkwX7_undo_1 ++ dktX7_undo_2
def dkwX7_undo_0 : List UInt8 := [42, 180, 1, 171, 154, 0, 15, 42, 180, 0, 17, 7, 92, 46, 4, 96, 79, 3, 172, 3, 60, 27]
abbrev dktX7_undo_0 : List UInt8 := dkwX7_undo_0 ++ dktX7_undo_1
theorem dksX7_undo_0 : cX7_undo.data.toList.drop 0 = dktX7_undo_0 := by decide +kernel
theorem dksX7_undo_1 : cX7_undo.data.toList.drop 22 = dktX7_undo_1 := dk_seg dksX7_undo_0 22 rfl rfl
theorem dksX7_undo_2 : cX7_undo.data.toList.drop 46 = dktX7_undo_2 := dk_seg dksX7_undo_1 24 rfl rfl
theorem dksX7_undo_3 : cX7_undo.data.toList.drop 68 = dktX7_undo_3 := dk_seg dksX7_undo_2 22 rfl rfl
theorem dX7_undo_0 : decode cX7_undo 0 = .ok (.aload_n 0, 1) := dk_42 (dk_at dksX7_undo_0 0 rfl rfl)
theorem dX7_undo_1 : decode cX7_undo 1 = .ok (.getfield 427, 3) := dk_180 1 171 (dk_at dksX7_undo_0 1 rfl rfl)
theorem dX7_undo_4 : decode cX7_undo 4 = .ok (.ifCond .ne 15, 3) := dk_154 0 15 (dk_at dksX7_undo_0 4 rfl rfl)
theorem dX7_undo_7 : decode cX7_undo 7 = .ok (.aload_n 0, 1) := dk_42 (dk_at dksX7_undo_0 7 rfl rfl)
theorem dX7_undo_8 : decode cX7_undo 8 = .ok (.getfield 17, 3) := dk_180 0 17 (dk_at dksX7_undo_0 8 rfl rfl)
theorem dX7_undo_11 : decode cX7_undo 11 = .ok (.iconst 4, 1) := dk_7 (dk_at dksX7_undo_0 11 rfl rfl)
theorem dX7_undo_12 : decode cX7_undo 12 = .ok (.dup2, 1) := dk_92 (dk_at dksX7_undo_0 12 rfl rfl)
theorem dX7_undo_13 : decode cX7_undo 13 = .ok (.iaload, 1) := dk_46 (dk_at dksX7_undo_0 13 rfl rfl)
theorem dX7_undo_14 : decode cX7_undo 14 = .ok (.iconst 1, 1) := dk_4 (dk_at dksX7_undo_0 14 rfl rfl)
theorem dX7_undo_15 : decode cX7_undo 15 = .ok (.iadd, 1) := dk_96 (dk_at dksX7_undo_0 15 rfl rfl)
theorem dX7_undo_16 : decode cX7_undo 16 = .ok (.iastore, 1) := dk_79 (dk_at dksX7_undo_0 16 rfl rfl)
theorem dX7_undo_17 : decode cX7_undo 17 = .ok (.iconst 0, 1) := dk_3 (dk_at dksX7_undo_0 17 rfl rfl)
theorem dX7_undo_18 : decode cX7_undo 18 = .ok (.ireturn, 1) := dk_172 (dk_at dksX7_undo_0 18 rfl rfl)
theorem dX7_undo_19 : decode cX7_undo 19 = .ok (.iconst 0, 1) := dk_3 (dk_at dksX7_undo_0 19 rfl rfl)
theorem dX7_undo_20 : decode cX7_undo 20 = .ok (.istore_n 1, 1) := dk_60 (dk_at dksX7_undo_0 20 rfl rfl)
theorem dX7_undo_21 : decode cX7_undo 21 = .ok (.iload_n 1, 1) := dk_27 (dk_at dksX7_undo_0 21 rfl rfl)
theorem dX7_undo_22 : decode cX7_undo 22 = .ok (.sipush 225, 3) := dk_17 0 225 (dk_at dksX7_undo_1 0 rfl rfl)
theorem dX7_undo_25 : decode cX7_undo 25 = .ok (.if_icmp .ge 30, 3) := dk_162 0 30 (dk_at dksX7_undo_1 3 rfl rfl)
theorem dX7_undo_28 : decode cX7_undo 28 = .ok (.aload_n 0, 1) := dk_42 (dk_at dksX7_undo_1 6 rfl rfl)
theorem dX7_undo_29 : decode cX7_undo 29 = .ok (.getfield 154, 3) := dk_180 0 154 (dk_at dksX7_undo_1 7 rfl rfl)
theorem dX7_undo_32 : decode cX7_undo 32 = .ok (.iload_n 1, 1) := dk_27 (dk_at dksX7_undo_1 10 rfl rfl)
theorem dX7_undo_33 : decode cX7_undo 33 = .ok (.aload_n 0, 1) := dk_42 (dk_at dksX7_undo_1 11 rfl rfl)
theorem dX7_undo_34 : decode cX7_undo 34 = .ok (.getfield 187, 3) := dk_180 0 187 (dk_at dksX7_undo_1 12 rfl rfl)
theorem dX7_undo_37 : decode cX7_undo 37 = .ok (.sipush 225, 3) := dk_17 0 225 (dk_at dksX7_undo_1 15 rfl rfl)
theorem dX7_undo_40 : decode cX7_undo 40 = .ok (.aload_n 0, 1) := dk_42 (dk_at dksX7_undo_1 18 rfl rfl)
theorem dX7_undo_41 : decode cX7_undo 41 = .ok (.getfield 660, 3) := dk_180 2 148 (dk_at dksX7_undo_1 19 rfl rfl)
theorem dX7_undo_44 : decode cX7_undo 44 = .ok (.imul, 1) := dk_104 (dk_at dksX7_undo_1 22 rfl rfl)
theorem dX7_undo_45 : decode cX7_undo 45 = .ok (.iload_n 1, 1) := dk_27 (dk_at dksX7_undo_1 23 rfl rfl)
theorem dX7_undo_46 : decode cX7_undo 46 = .ok (.iadd, 1) := dk_96 (dk_at dksX7_undo_2 0 rfl rfl)
theorem dX7_undo_47 : decode cX7_undo 47 = .ok (.iaload, 1) := dk_46 (dk_at dksX7_undo_2 1 rfl rfl)
theorem dX7_undo_48 : decode cX7_undo 48 = .ok (.iastore, 1) := dk_79 (dk_at dksX7_undo_2 2 rfl rfl)
theorem dX7_undo_49 : decode cX7_undo 49 = .ok (.iinc 1 1, 3) := dk_132 1 1 (dk_at dksX7_undo_2 3 rfl rfl)
theorem dX7_undo_52 : decode cX7_undo 52 = .ok (.goto (-31), 3) := dk_167 255 225 (dk_at dksX7_undo_2 6 rfl rfl)
theorem dX7_undo_55 : decode cX7_undo 55 = .ok (.aload_n 0, 1) := dk_42 (dk_at dksX7_undo_2 9 rfl rfl)
theorem dX7_undo_56 : decode cX7_undo 56 = .ok (.aload_n 0, 1) := dk_42 (dk_at dksX7_undo_2 10 rfl rfl)
theorem dX7_undo_57 : decode cX7_undo 57 = .ok (.getfield 660, 3) := dk_180 2 148 (dk_at dksX7_undo_2 11 rfl rfl)
theorem dX7_undo_60 : decode cX7_undo 60 = .ok (.bipush 20, 2) := dk_16 20 (dk_at dksX7_undo_2 14 rfl rfl)
theorem dX7_undo_62 : decode cX7_undo 62 = .ok (.iadd, 1) := dk_96 (dk_at dksX7_undo_2 16 rfl rfl)
theorem dX7_undo_63 : decode cX7_undo 63 = .ok (.iconst 1, 1) := dk_4 (dk_at dksX7_undo_2 17 rfl rfl)
theorem dX7_undo_64 : decode cX7_undo 64 = .ok (.isub, 1) := dk_100 (dk_at dksX7_undo_2 18 rfl rfl)
theorem dX7_undo_65 : decode cX7_undo 65 = .ok (.bipush 20, 2) := dk_16 20 (dk_at dksX7_undo_2 19 rfl rfl)
theorem dX7_undo_67 : decode cX7_undo 67 = .ok (.irem, 1) := dk_112 (dk_at dksX7_undo_2 21 rfl rfl)
theorem dX7_undo_68 : decode cX7_undo 68 = .ok (.putfield 660, 3) := dk_181 2 148 (dk_at dksX7_undo_3 0 rfl rfl)
theorem dX7_undo_71 : decode cX7_undo 71 = .ok (.aload_n 0, 1) := dk_42 (dk_at dksX7_undo_3 3 rfl rfl)
theorem dX7_undo_72 : decode cX7_undo 72 = .ok (.dup, 1) := dk_89 (dk_at dksX7_undo_3 4 rfl rfl)
theorem dX7_undo_73 : decode cX7_undo 73 = .ok (.getfield 427, 3) := dk_180 1 171 (dk_at dksX7_undo_3 5 rfl rfl)
theorem dX7_undo_76 : decode cX7_undo 76 = .ok (.iconst 1, 1) := dk_4 (dk_at dksX7_undo_3 8 rfl rfl)
theorem dX7_undo_77 : decode cX7_undo 77 = .ok (.isub, 1) := dk_100 (dk_at dksX7_undo_3 9 rfl rfl)
theorem dX7_undo_78 : decode cX7_undo 78 = .ok (.putfield 427, 3) := dk_181 1 171 (dk_at dksX7_undo_3 10 rfl rfl)
theorem dX7_undo_81 : decode cX7_undo 81 = .ok (.iconst 1, 1) := dk_4 (dk_at dksX7_undo_3 13 rfl rfl)
theorem dX7_undo_82 : decode cX7_undo 82 = .ok (.ireturn, 1) := dk_172 (dk_at dksX7_undo_3 14 rfl rfl)
abbrev cX7_play : ByteArray := prog_25_method_110_code
def yX7_play : MethodName := ⟨RX7, "play", "(I)I"⟩
def dkwX7_play_1 : List UInt8 := [160, 0, 9, 42, 5, 182, 2, 127, 172, 42, 182, 2, 151, 42, 182, 2, 66, 42, 180, 2, 38, 172]
abbrev dktX7_play_1 : List UInt8 := dkwX7_play_1 ++ []
def dkwX7_play_0 : List UInt8 := [42, 27, 182, 2, 95, 42, 180, 2, 3, 2, 159, 0, 15, 42, 180, 0, 154, 3, 46, 17, 3, 231]
abbrev dktX7_play_0 : List UInt8 := dkwX7_play_0 ++ dktX7_play_1
theorem dksX7_play_0 : cX7_play.data.toList.drop 0 = dktX7_play_0 := by decide +kernel
theorem dksX7_play_1 : cX7_play.data.toList.drop 22 = dktX7_play_1 := dk_seg dksX7_play_0 22 rfl rfl
theorem dX7_play_0 : decode cX7_play 0 = .ok (.aload_n 0, 1) := dk_42 (dk_at dksX7_play_0 0 rfl rfl)
theorem dX7_play_1 : decode cX7_play 1 = .ok (.iload_n 1, 1) := dk_27 (dk_at dksX7_play_0 1 rfl rfl)
theorem dX7_play_2 : decode cX7_play 2 = .ok (.invokevirtual 607, 3) := dk_182 2 95 (dk_at dksX7_play_0 2 rfl rfl)
theorem dX7_play_5 : decode cX7_play 5 = .ok (.aload_n 0, 1) := dk_42 (dk_at dksX7_play_0 5 rfl rfl)
theorem dX7_play_6 : decode cX7_play 6 = .ok (.getfield 515, 3) := dk_180 2 3 (dk_at dksX7_play_0 6 rfl rfl)
theorem dX7_play_9 : decode cX7_play 9 = .ok (.iconst (-1), 1) := dk_2 (dk_at dksX7_play_0 9 rfl rfl)
theorem dX7_play_10 : decode cX7_play 10 = .ok (.if_icmp .eq 15, 3) := dk_159 0 15 (dk_at dksX7_play_0 10 rfl rfl)
theorem dX7_play_13 : decode cX7_play 13 = .ok (.aload_n 0, 1) := dk_42 (dk_at dksX7_play_0 13 rfl rfl)
theorem dX7_play_14 : decode cX7_play 14 = .ok (.getfield 154, 3) := dk_180 0 154 (dk_at dksX7_play_0 14 rfl rfl)
theorem dX7_play_17 : decode cX7_play 17 = .ok (.iconst 0, 1) := dk_3 (dk_at dksX7_play_0 17 rfl rfl)
theorem dX7_play_18 : decode cX7_play 18 = .ok (.iaload, 1) := dk_46 (dk_at dksX7_play_0 18 rfl rfl)
theorem dX7_play_19 : decode cX7_play 19 = .ok (.sipush 999, 3) := dk_17 3 231 (dk_at dksX7_play_0 19 rfl rfl)
theorem dX7_play_22 : decode cX7_play 22 = .ok (.if_icmp .ne 9, 3) := dk_160 0 9 (dk_at dksX7_play_1 0 rfl rfl)
theorem dX7_play_25 : decode cX7_play 25 = .ok (.aload_n 0, 1) := dk_42 (dk_at dksX7_play_1 3 rfl rfl)
theorem dX7_play_26 : decode cX7_play 26 = .ok (.iconst 2, 1) := dk_5 (dk_at dksX7_play_1 4 rfl rfl)
theorem dX7_play_27 : decode cX7_play 27 = .ok (.invokevirtual 639, 3) := dk_182 2 127 (dk_at dksX7_play_1 5 rfl rfl)
theorem dX7_play_30 : decode cX7_play 30 = .ok (.ireturn, 1) := dk_172 (dk_at dksX7_play_1 8 rfl rfl)
theorem dX7_play_31 : decode cX7_play 31 = .ok (.aload_n 0, 1) := dk_42 (dk_at dksX7_play_1 9 rfl rfl)
theorem dX7_play_32 : decode cX7_play 32 = .ok (.invokevirtual 663, 3) := dk_182 2 151 (dk_at dksX7_play_1 10 rfl rfl)
theorem dX7_play_35 : decode cX7_play 35 = .ok (.aload_n 0, 1) := dk_42 (dk_at dksX7_play_1 13 rfl rfl)
theorem dX7_play_36 : decode cX7_play 36 = .ok (.invokevirtual 578, 3) := dk_182 2 66 (dk_at dksX7_play_1 14 rfl rfl)
theorem dX7_play_39 : decode cX7_play 39 = .ok (.aload_n 0, 1) := dk_42 (dk_at dksX7_play_1 17 rfl rfl)
theorem dX7_play_40 : decode cX7_play 40 = .ok (.getfield 550, 3) := dk_180 2 38 (dk_at dksX7_play_1 18 rfl rfl)
theorem dX7_play_43 : decode cX7_play 43 = .ok (.ireturn, 1) := dk_172 (dk_at dksX7_play_1 21 rfl rfl)
abbrev cX7_keeps : ByteArray := prog_25_method_108_code
def yX7_keeps : MethodName := ⟨RX7, "keeps", "()V"⟩
def dkwX7_keeps_2 : List UInt8 := [167, 255, 225, 42, 180, 1, 171, 16, 20, 162, 0, 13, 42, 89, 180, 1, 171, 4, 96, 181, 1, 171, 177]
abbrev dktX7_keeps_2 : List UInt8 := dkwX7_keeps_2 ++ []
def dkwX7_keeps_1 : List UInt8 := [180, 0, 187, 17, 0, 225, 42, 180, 2, 148, 104, 27, 96, 42, 180, 0, 154, 27, 46, 79, 132, 1, 1]
abbrev dktX7_keeps_1 : List UInt8 := dkwX7_keeps_1 ++ dktX7_keeps_2
def dkwX7_keeps_0 : List UInt8 := [42, 42, 180, 2, 148, 4, 96, 16, 20, 112, 181, 2, 148, 3, 60, 27, 17, 0, 225, 162, 0, 30, 42]
abbrev dktX7_keeps_0 : List UInt8 := dkwX7_keeps_0 ++ dktX7_keeps_1
theorem dksX7_keeps_0 : cX7_keeps.data.toList.drop 0 = dktX7_keeps_0 := by decide +kernel
theorem dksX7_keeps_1 : cX7_keeps.data.toList.drop 23 = dktX7_keeps_1 := dk_seg dksX7_keeps_0 23 rfl rfl
theorem dksX7_keeps_2 : cX7_keeps.data.toList.drop 46 = dktX7_keeps_2 := dk_seg dksX7_keeps_1 23 rfl rfl
theorem dX7_keeps_0 : decode cX7_keeps 0 = .ok (.aload_n 0, 1) := dk_42 (dk_at dksX7_keeps_0 0 rfl rfl)
theorem dX7_keeps_1 : decode cX7_keeps 1 = .ok (.aload_n 0, 1) := dk_42 (dk_at dksX7_keeps_0 1 rfl rfl)
theorem dX7_keeps_2 : decode cX7_keeps 2 = .ok (.getfield 660, 3) := dk_180 2 148 (dk_at dksX7_keeps_0 2 rfl rfl)
theorem dX7_keeps_5 : decode cX7_keeps 5 = .ok (.iconst 1, 1) := dk_4 (dk_at dksX7_keeps_0 5 rfl rfl)
theorem dX7_keeps_6 : decode cX7_keeps 6 = .ok (.iadd, 1) := dk_96 (dk_at dksX7_keeps_0 6 rfl rfl)
theorem dX7_keeps_7 : decode cX7_keeps 7 = .ok (.bipush 20, 2) := dk_16 20 (dk_at dksX7_keeps_0 7 rfl rfl)
theorem dX7_keeps_9 : decode cX7_keeps 9 = .ok (.irem, 1) := dk_112 (dk_at dksX7_keeps_0 9 rfl rfl)
theorem dX7_keeps_10 : decode cX7_keeps 10 = .ok (.putfield 660, 3) := dk_181 2 148 (dk_at dksX7_keeps_0 10 rfl rfl)
theorem dX7_keeps_13 : decode cX7_keeps 13 = .ok (.iconst 0, 1) := dk_3 (dk_at dksX7_keeps_0 13 rfl rfl)
theorem dX7_keeps_14 : decode cX7_keeps 14 = .ok (.istore_n 1, 1) := dk_60 (dk_at dksX7_keeps_0 14 rfl rfl)
theorem dX7_keeps_15 : decode cX7_keeps 15 = .ok (.iload_n 1, 1) := dk_27 (dk_at dksX7_keeps_0 15 rfl rfl)
theorem dX7_keeps_16 : decode cX7_keeps 16 = .ok (.sipush 225, 3) := dk_17 0 225 (dk_at dksX7_keeps_0 16 rfl rfl)
theorem dX7_keeps_19 : decode cX7_keeps 19 = .ok (.if_icmp .ge 30, 3) := dk_162 0 30 (dk_at dksX7_keeps_0 19 rfl rfl)
theorem dX7_keeps_22 : decode cX7_keeps 22 = .ok (.aload_n 0, 1) := dk_42 (dk_at dksX7_keeps_0 22 rfl rfl)
theorem dX7_keeps_23 : decode cX7_keeps 23 = .ok (.getfield 187, 3) := dk_180 0 187 (dk_at dksX7_keeps_1 0 rfl rfl)
theorem dX7_keeps_26 : decode cX7_keeps 26 = .ok (.sipush 225, 3) := dk_17 0 225 (dk_at dksX7_keeps_1 3 rfl rfl)
theorem dX7_keeps_29 : decode cX7_keeps 29 = .ok (.aload_n 0, 1) := dk_42 (dk_at dksX7_keeps_1 6 rfl rfl)
theorem dX7_keeps_30 : decode cX7_keeps 30 = .ok (.getfield 660, 3) := dk_180 2 148 (dk_at dksX7_keeps_1 7 rfl rfl)
theorem dX7_keeps_33 : decode cX7_keeps 33 = .ok (.imul, 1) := dk_104 (dk_at dksX7_keeps_1 10 rfl rfl)
theorem dX7_keeps_34 : decode cX7_keeps 34 = .ok (.iload_n 1, 1) := dk_27 (dk_at dksX7_keeps_1 11 rfl rfl)
theorem dX7_keeps_35 : decode cX7_keeps 35 = .ok (.iadd, 1) := dk_96 (dk_at dksX7_keeps_1 12 rfl rfl)
theorem dX7_keeps_36 : decode cX7_keeps 36 = .ok (.aload_n 0, 1) := dk_42 (dk_at dksX7_keeps_1 13 rfl rfl)
theorem dX7_keeps_37 : decode cX7_keeps 37 = .ok (.getfield 154, 3) := dk_180 0 154 (dk_at dksX7_keeps_1 14 rfl rfl)
theorem dX7_keeps_40 : decode cX7_keeps 40 = .ok (.iload_n 1, 1) := dk_27 (dk_at dksX7_keeps_1 17 rfl rfl)
theorem dX7_keeps_41 : decode cX7_keeps 41 = .ok (.iaload, 1) := dk_46 (dk_at dksX7_keeps_1 18 rfl rfl)
theorem dX7_keeps_42 : decode cX7_keeps 42 = .ok (.iastore, 1) := dk_79 (dk_at dksX7_keeps_1 19 rfl rfl)
theorem dX7_keeps_43 : decode cX7_keeps 43 = .ok (.iinc 1 1, 3) := dk_132 1 1 (dk_at dksX7_keeps_1 20 rfl rfl)
theorem dX7_keeps_46 : decode cX7_keeps 46 = .ok (.goto (-31), 3) := dk_167 255 225 (dk_at dksX7_keeps_2 0 rfl rfl)
theorem dX7_keeps_49 : decode cX7_keeps 49 = .ok (.aload_n 0, 1) := dk_42 (dk_at dksX7_keeps_2 3 rfl rfl)
theorem dX7_keeps_50 : decode cX7_keeps 50 = .ok (.getfield 427, 3) := dk_180 1 171 (dk_at dksX7_keeps_2 4 rfl rfl)
theorem dX7_keeps_53 : decode cX7_keeps 53 = .ok (.bipush 20, 2) := dk_16 20 (dk_at dksX7_keeps_2 7 rfl rfl)
theorem dX7_keeps_55 : decode cX7_keeps 55 = .ok (.if_icmp .ge 13, 3) := dk_162 0 13 (dk_at dksX7_keeps_2 9 rfl rfl)
theorem dX7_keeps_58 : decode cX7_keeps 58 = .ok (.aload_n 0, 1) := dk_42 (dk_at dksX7_keeps_2 12 rfl rfl)
theorem dX7_keeps_59 : decode cX7_keeps 59 = .ok (.dup, 1) := dk_89 (dk_at dksX7_keeps_2 13 rfl rfl)
theorem dX7_keeps_60 : decode cX7_keeps 60 = .ok (.getfield 427, 3) := dk_180 1 171 (dk_at dksX7_keeps_2 14 rfl rfl)
theorem dX7_keeps_63 : decode cX7_keeps 63 = .ok (.iconst 1, 1) := dk_4 (dk_at dksX7_keeps_2 17 rfl rfl)
theorem dX7_keeps_64 : decode cX7_keeps 64 = .ok (.iadd, 1) := dk_96 (dk_at dksX7_keeps_2 18 rfl rfl)
theorem dX7_keeps_65 : decode cX7_keeps 65 = .ok (.putfield 427, 3) := dk_181 1 171 (dk_at dksX7_keeps_2 19 rfl rfl)
theorem dX7_keeps_68 : decode cX7_keeps 68 = .ok (.return_, 1) := dk_177 (dk_at dksX7_keeps_2 22 rfl rfl)
abbrev cX7_tend : ByteArray := prog_25_method_111_code
def yX7_tend : MethodName := ⟨RX7, "tend", "(II)I"⟩
def dkwX7_tend_3 : List UInt8 := [16, 18, 27, 96, 46, 172]
abbrev dktX7_tend_3 : List UInt8 := dkwX7_tend_3 ++ []
def dkwX7_tend_2 : List UInt8 := [16, 18, 27, 96, 29, 17, 3, 231, 164, 0, 9, 17, 3, 231, 167, 0, 4, 29, 79, 42, 180, 0, 154]
abbrev dktX7_tend_2 : List UInt8 := dkwX7_tend_2 ++ dktX7_tend_3
def dkwX7_tend_1 : List UInt8 := [182, 2, 127, 172, 42, 182, 2, 151, 42, 180, 0, 154, 16, 18, 27, 96, 46, 28, 96, 62, 42, 180, 0, 154]
abbrev dktX7_tend_1 : List UInt8 := dkwX7_tend_1 ++ dktX7_tend_2
def dkwX7_tend_0 : List UInt8 := [42, 27, 182, 2, 90, 153, 0, 15, 28, 133, 10, 20, 2, 154, 184, 1, 65, 154, 0, 9, 42, 5]
abbrev dktX7_tend_0 : List UInt8 := dkwX7_tend_0 ++ dktX7_tend_1
theorem dksX7_tend_0 : cX7_tend.data.toList.drop 0 = dktX7_tend_0 := by decide +kernel
theorem dksX7_tend_1 : cX7_tend.data.toList.drop 22 = dktX7_tend_1 := dk_seg dksX7_tend_0 22 rfl rfl
theorem dksX7_tend_2 : cX7_tend.data.toList.drop 46 = dktX7_tend_2 := dk_seg dksX7_tend_1 24 rfl rfl
theorem dksX7_tend_3 : cX7_tend.data.toList.drop 69 = dktX7_tend_3 := dk_seg dksX7_tend_2 23 rfl rfl
theorem dX7_tend_0 : decode cX7_tend 0 = .ok (.aload_n 0, 1) := dk_42 (dk_at dksX7_tend_0 0 rfl rfl)
theorem dX7_tend_1 : decode cX7_tend 1 = .ok (.iload_n 1, 1) := dk_27 (dk_at dksX7_tend_0 1 rfl rfl)
theorem dX7_tend_2 : decode cX7_tend 2 = .ok (.invokevirtual 602, 3) := dk_182 2 90 (dk_at dksX7_tend_0 2 rfl rfl)
theorem dX7_tend_5 : decode cX7_tend 5 = .ok (.ifCond .eq 15, 3) := dk_153 0 15 (dk_at dksX7_tend_0 5 rfl rfl)
theorem dX7_tend_8 : decode cX7_tend 8 = .ok (.iload_n 2, 1) := dk_28 (dk_at dksX7_tend_0 8 rfl rfl)
theorem dX7_tend_9 : decode cX7_tend 9 = .ok (.i2l, 1) := dk_133 (dk_at dksX7_tend_0 9 rfl rfl)
theorem dX7_tend_10 : decode cX7_tend 10 = .ok (.lconst 1, 1) := dk_10 (dk_at dksX7_tend_0 10 rfl rfl)
theorem dX7_tend_11 : decode cX7_tend 11 = .ok (.ldc2_w 666, 3) := dk_20 2 154 (dk_at dksX7_tend_0 11 rfl rfl)
theorem dX7_tend_14 : decode cX7_tend 14 = .ok (.invokestatic 321, 3) := dk_184 1 65 (dk_at dksX7_tend_0 14 rfl rfl)
theorem dX7_tend_17 : decode cX7_tend 17 = .ok (.ifCond .ne 9, 3) := dk_154 0 9 (dk_at dksX7_tend_0 17 rfl rfl)
theorem dX7_tend_20 : decode cX7_tend 20 = .ok (.aload_n 0, 1) := dk_42 (dk_at dksX7_tend_0 20 rfl rfl)
theorem dX7_tend_21 : decode cX7_tend 21 = .ok (.iconst 2, 1) := dk_5 (dk_at dksX7_tend_0 21 rfl rfl)
theorem dX7_tend_22 : decode cX7_tend 22 = .ok (.invokevirtual 639, 3) := dk_182 2 127 (dk_at dksX7_tend_1 0 rfl rfl)
theorem dX7_tend_25 : decode cX7_tend 25 = .ok (.ireturn, 1) := dk_172 (dk_at dksX7_tend_1 3 rfl rfl)
theorem dX7_tend_26 : decode cX7_tend 26 = .ok (.aload_n 0, 1) := dk_42 (dk_at dksX7_tend_1 4 rfl rfl)
theorem dX7_tend_27 : decode cX7_tend 27 = .ok (.invokevirtual 663, 3) := dk_182 2 151 (dk_at dksX7_tend_1 5 rfl rfl)
theorem dX7_tend_30 : decode cX7_tend 30 = .ok (.aload_n 0, 1) := dk_42 (dk_at dksX7_tend_1 8 rfl rfl)
theorem dX7_tend_31 : decode cX7_tend 31 = .ok (.getfield 154, 3) := dk_180 0 154 (dk_at dksX7_tend_1 9 rfl rfl)
theorem dX7_tend_34 : decode cX7_tend 34 = .ok (.bipush 18, 2) := dk_16 18 (dk_at dksX7_tend_1 12 rfl rfl)
theorem dX7_tend_36 : decode cX7_tend 36 = .ok (.iload_n 1, 1) := dk_27 (dk_at dksX7_tend_1 14 rfl rfl)
theorem dX7_tend_37 : decode cX7_tend 37 = .ok (.iadd, 1) := dk_96 (dk_at dksX7_tend_1 15 rfl rfl)
theorem dX7_tend_38 : decode cX7_tend 38 = .ok (.iaload, 1) := dk_46 (dk_at dksX7_tend_1 16 rfl rfl)
theorem dX7_tend_39 : decode cX7_tend 39 = .ok (.iload_n 2, 1) := dk_28 (dk_at dksX7_tend_1 17 rfl rfl)
theorem dX7_tend_40 : decode cX7_tend 40 = .ok (.iadd, 1) := dk_96 (dk_at dksX7_tend_1 18 rfl rfl)
theorem dX7_tend_41 : decode cX7_tend 41 = .ok (.istore_n 3, 1) := dk_62 (dk_at dksX7_tend_1 19 rfl rfl)
theorem dX7_tend_42 : decode cX7_tend 42 = .ok (.aload_n 0, 1) := dk_42 (dk_at dksX7_tend_1 20 rfl rfl)
theorem dX7_tend_43 : decode cX7_tend 43 = .ok (.getfield 154, 3) := dk_180 0 154 (dk_at dksX7_tend_1 21 rfl rfl)
theorem dX7_tend_46 : decode cX7_tend 46 = .ok (.bipush 18, 2) := dk_16 18 (dk_at dksX7_tend_2 0 rfl rfl)
theorem dX7_tend_48 : decode cX7_tend 48 = .ok (.iload_n 1, 1) := dk_27 (dk_at dksX7_tend_2 2 rfl rfl)
theorem dX7_tend_49 : decode cX7_tend 49 = .ok (.iadd, 1) := dk_96 (dk_at dksX7_tend_2 3 rfl rfl)
theorem dX7_tend_50 : decode cX7_tend 50 = .ok (.iload_n 3, 1) := dk_29 (dk_at dksX7_tend_2 4 rfl rfl)
theorem dX7_tend_51 : decode cX7_tend 51 = .ok (.sipush 999, 3) := dk_17 3 231 (dk_at dksX7_tend_2 5 rfl rfl)
theorem dX7_tend_54 : decode cX7_tend 54 = .ok (.if_icmp .le 9, 3) := dk_164 0 9 (dk_at dksX7_tend_2 8 rfl rfl)
theorem dX7_tend_57 : decode cX7_tend 57 = .ok (.sipush 999, 3) := dk_17 3 231 (dk_at dksX7_tend_2 11 rfl rfl)
theorem dX7_tend_60 : decode cX7_tend 60 = .ok (.goto 4, 3) := dk_167 0 4 (dk_at dksX7_tend_2 14 rfl rfl)
theorem dX7_tend_63 : decode cX7_tend 63 = .ok (.iload_n 3, 1) := dk_29 (dk_at dksX7_tend_2 17 rfl rfl)
theorem dX7_tend_64 : decode cX7_tend 64 = .ok (.iastore, 1) := dk_79 (dk_at dksX7_tend_2 18 rfl rfl)
theorem dX7_tend_65 : decode cX7_tend 65 = .ok (.aload_n 0, 1) := dk_42 (dk_at dksX7_tend_2 19 rfl rfl)
theorem dX7_tend_66 : decode cX7_tend 66 = .ok (.getfield 154, 3) := dk_180 0 154 (dk_at dksX7_tend_2 20 rfl rfl)
theorem dX7_tend_69 : decode cX7_tend 69 = .ok (.bipush 18, 2) := dk_16 18 (dk_at dksX7_tend_3 0 rfl rfl)
theorem dX7_tend_71 : decode cX7_tend 71 = .ok (.iload_n 1, 1) := dk_27 (dk_at dksX7_tend_3 2 rfl rfl)
theorem dX7_tend_72 : decode cX7_tend 72 = .ok (.iadd, 1) := dk_96 (dk_at dksX7_tend_3 3 rfl rfl)
theorem dX7_tend_73 : decode cX7_tend 73 = .ok (.iaload, 1) := dk_46 (dk_at dksX7_tend_3 4 rfl rfl)
theorem dX7_tend_74 : decode cX7_tend 74 = .ok (.ireturn, 1) := dk_172 (dk_at dksX7_tend_3 5 rfl rfl)
abbrev cX7_days : ByteArray := prog_25_method_112_code
def yX7_days : MethodName := ⟨RX7, "days", "(I)I"⟩
def dkwX7_days_2 : List UInt8 := [182, 2, 66, 132, 3, 1, 167, 255, 229, 28, 172]
abbrev dktX7_days_2 : List UInt8 := dkwX7_days_2 ++ []
def dkwX7_days_1 : List UInt8 := [62, 29, 27, 162, 0, 28, 42, 182, 2, 63, 42, 180, 2, 3, 2, 159, 0, 6, 132, 2, 1, 42]
abbrev dktX7_days_1 : List UInt8 := dkwX7_days_1 ++ dktX7_days_2
def dkwX7_days_0 : List UInt8 := [42, 27, 4, 16, 30, 182, 2, 106, 154, 0, 9, 42, 6, 182, 2, 127, 172, 42, 182, 2, 151, 3, 61, 3]
abbrev dktX7_days_0 : List UInt8 := dkwX7_days_0 ++ dktX7_days_1
theorem dksX7_days_0 : cX7_days.data.toList.drop 0 = dktX7_days_0 := by decide +kernel
theorem dksX7_days_1 : cX7_days.data.toList.drop 24 = dktX7_days_1 := dk_seg dksX7_days_0 24 rfl rfl
theorem dksX7_days_2 : cX7_days.data.toList.drop 46 = dktX7_days_2 := dk_seg dksX7_days_1 22 rfl rfl
theorem dX7_days_0 : decode cX7_days 0 = .ok (.aload_n 0, 1) := dk_42 (dk_at dksX7_days_0 0 rfl rfl)
theorem dX7_days_1 : decode cX7_days 1 = .ok (.iload_n 1, 1) := dk_27 (dk_at dksX7_days_0 1 rfl rfl)
theorem dX7_days_2 : decode cX7_days 2 = .ok (.iconst 1, 1) := dk_4 (dk_at dksX7_days_0 2 rfl rfl)
theorem dX7_days_3 : decode cX7_days 3 = .ok (.bipush 30, 2) := dk_16 30 (dk_at dksX7_days_0 3 rfl rfl)
theorem dX7_days_5 : decode cX7_days 5 = .ok (.invokevirtual 618, 3) := dk_182 2 106 (dk_at dksX7_days_0 5 rfl rfl)
theorem dX7_days_8 : decode cX7_days 8 = .ok (.ifCond .ne 9, 3) := dk_154 0 9 (dk_at dksX7_days_0 8 rfl rfl)
theorem dX7_days_11 : decode cX7_days 11 = .ok (.aload_n 0, 1) := dk_42 (dk_at dksX7_days_0 11 rfl rfl)
theorem dX7_days_12 : decode cX7_days 12 = .ok (.iconst 3, 1) := dk_6 (dk_at dksX7_days_0 12 rfl rfl)
theorem dX7_days_13 : decode cX7_days 13 = .ok (.invokevirtual 639, 3) := dk_182 2 127 (dk_at dksX7_days_0 13 rfl rfl)
theorem dX7_days_16 : decode cX7_days 16 = .ok (.ireturn, 1) := dk_172 (dk_at dksX7_days_0 16 rfl rfl)
theorem dX7_days_17 : decode cX7_days 17 = .ok (.aload_n 0, 1) := dk_42 (dk_at dksX7_days_0 17 rfl rfl)
theorem dX7_days_18 : decode cX7_days 18 = .ok (.invokevirtual 663, 3) := dk_182 2 151 (dk_at dksX7_days_0 18 rfl rfl)
theorem dX7_days_21 : decode cX7_days 21 = .ok (.iconst 0, 1) := dk_3 (dk_at dksX7_days_0 21 rfl rfl)
theorem dX7_days_22 : decode cX7_days 22 = .ok (.istore_n 2, 1) := dk_61 (dk_at dksX7_days_0 22 rfl rfl)
theorem dX7_days_23 : decode cX7_days 23 = .ok (.iconst 0, 1) := dk_3 (dk_at dksX7_days_0 23 rfl rfl)
theorem dX7_days_24 : decode cX7_days 24 = .ok (.istore_n 3, 1) := dk_62 (dk_at dksX7_days_1 0 rfl rfl)
theorem dX7_days_25 : decode cX7_days 25 = .ok (.iload_n 3, 1) := dk_29 (dk_at dksX7_days_1 1 rfl rfl)
theorem dX7_days_26 : decode cX7_days 26 = .ok (.iload_n 1, 1) := dk_27 (dk_at dksX7_days_1 2 rfl rfl)
theorem dX7_days_27 : decode cX7_days 27 = .ok (.if_icmp .ge 28, 3) := dk_162 0 28 (dk_at dksX7_days_1 3 rfl rfl)
theorem dX7_days_30 : decode cX7_days 30 = .ok (.aload_n 0, 1) := dk_42 (dk_at dksX7_days_1 6 rfl rfl)
theorem dX7_days_31 : decode cX7_days 31 = .ok (.invokevirtual 575, 3) := dk_182 2 63 (dk_at dksX7_days_1 7 rfl rfl)
theorem dX7_days_34 : decode cX7_days 34 = .ok (.aload_n 0, 1) := dk_42 (dk_at dksX7_days_1 10 rfl rfl)
theorem dX7_days_35 : decode cX7_days 35 = .ok (.getfield 515, 3) := dk_180 2 3 (dk_at dksX7_days_1 11 rfl rfl)
theorem dX7_days_38 : decode cX7_days 38 = .ok (.iconst (-1), 1) := dk_2 (dk_at dksX7_days_1 14 rfl rfl)
theorem dX7_days_39 : decode cX7_days 39 = .ok (.if_icmp .eq 6, 3) := dk_159 0 6 (dk_at dksX7_days_1 15 rfl rfl)
theorem dX7_days_42 : decode cX7_days 42 = .ok (.iinc 2 1, 3) := dk_132 2 1 (dk_at dksX7_days_1 18 rfl rfl)
theorem dX7_days_45 : decode cX7_days 45 = .ok (.aload_n 0, 1) := dk_42 (dk_at dksX7_days_1 21 rfl rfl)
theorem dX7_days_46 : decode cX7_days 46 = .ok (.invokevirtual 578, 3) := dk_182 2 66 (dk_at dksX7_days_2 0 rfl rfl)
theorem dX7_days_49 : decode cX7_days 49 = .ok (.iinc 3 1, 3) := dk_132 3 1 (dk_at dksX7_days_2 3 rfl rfl)
theorem dX7_days_52 : decode cX7_days 52 = .ok (.goto (-27), 3) := dk_167 255 229 (dk_at dksX7_days_2 6 rfl rfl)
theorem dX7_days_55 : decode cX7_days 55 = .ok (.iload_n 2, 1) := dk_28 (dk_at dksX7_days_2 9 rfl rfl)
theorem dX7_days_56 : decode cX7_days 56 = .ok (.ireturn, 1) := dk_172 (dk_at dksX7_days_2 10 rfl rfl)
abbrev cX7_seed : ByteArray := prog_25_method_113_code
def yX7_seed : MethodName := ⟨RX7, "seed", "(I)Z"⟩
def dkwX7_seed_0 : List UInt8 := [27, 156, 0, 15, 42, 180, 0, 17, 8, 92, 46, 4, 96, 79, 3, 172, 42, 27, 133, 181, 0, 190, 4, 172]
abbrev dktX7_seed_0 : List UInt8 := dkwX7_seed_0 ++ []
theorem dksX7_seed_0 : cX7_seed.data.toList.drop 0 = dktX7_seed_0 := by decide +kernel
theorem dX7_seed_0 : decode cX7_seed 0 = .ok (.iload_n 1, 1) := dk_27 (dk_at dksX7_seed_0 0 rfl rfl)
theorem dX7_seed_1 : decode cX7_seed 1 = .ok (.ifCond .ge 15, 3) := dk_156 0 15 (dk_at dksX7_seed_0 1 rfl rfl)
theorem dX7_seed_4 : decode cX7_seed 4 = .ok (.aload_n 0, 1) := dk_42 (dk_at dksX7_seed_0 4 rfl rfl)
theorem dX7_seed_5 : decode cX7_seed 5 = .ok (.getfield 17, 3) := dk_180 0 17 (dk_at dksX7_seed_0 5 rfl rfl)
theorem dX7_seed_8 : decode cX7_seed 8 = .ok (.iconst 5, 1) := dk_8 (dk_at dksX7_seed_0 8 rfl rfl)
theorem dX7_seed_9 : decode cX7_seed 9 = .ok (.dup2, 1) := dk_92 (dk_at dksX7_seed_0 9 rfl rfl)
theorem dX7_seed_10 : decode cX7_seed 10 = .ok (.iaload, 1) := dk_46 (dk_at dksX7_seed_0 10 rfl rfl)
theorem dX7_seed_11 : decode cX7_seed 11 = .ok (.iconst 1, 1) := dk_4 (dk_at dksX7_seed_0 11 rfl rfl)
theorem dX7_seed_12 : decode cX7_seed 12 = .ok (.iadd, 1) := dk_96 (dk_at dksX7_seed_0 12 rfl rfl)
theorem dX7_seed_13 : decode cX7_seed 13 = .ok (.iastore, 1) := dk_79 (dk_at dksX7_seed_0 13 rfl rfl)
theorem dX7_seed_14 : decode cX7_seed 14 = .ok (.iconst 0, 1) := dk_3 (dk_at dksX7_seed_0 14 rfl rfl)
theorem dX7_seed_15 : decode cX7_seed 15 = .ok (.ireturn, 1) := dk_172 (dk_at dksX7_seed_0 15 rfl rfl)
theorem dX7_seed_16 : decode cX7_seed 16 = .ok (.aload_n 0, 1) := dk_42 (dk_at dksX7_seed_0 16 rfl rfl)
theorem dX7_seed_17 : decode cX7_seed 17 = .ok (.iload_n 1, 1) := dk_27 (dk_at dksX7_seed_0 17 rfl rfl)
theorem dX7_seed_18 : decode cX7_seed 18 = .ok (.i2l, 1) := dk_133 (dk_at dksX7_seed_0 18 rfl rfl)
theorem dX7_seed_19 : decode cX7_seed 19 = .ok (.putfield 190, 3) := dk_181 0 190 (dk_at dksX7_seed_0 19 rfl rfl)
theorem dX7_seed_22 : decode cX7_seed 22 = .ok (.iconst 1, 1) := dk_4 (dk_at dksX7_seed_0 22 rfl rfl)
theorem dX7_seed_23 : decode cX7_seed 23 = .ok (.ireturn, 1) := dk_172 (dk_at dksX7_seed_0 23 rfl rfl)
abbrev cX7_chance : ByteArray := prog_25_method_115_code
def yX7_chance : MethodName := ⟨RX7, "chance", "(I)I"⟩
def dkwX7_chance_4 : List UInt8 := [167, 255, 188, 28, 172]
abbrev dktX7_chance_4 : List UInt8 := dkwX7_chance_4 ++ []
def dkwX7_chance_3 : List UInt8 := [182, 2, 164, 182, 2, 95, 132, 2, 1, 167, 0, 7, 42, 182, 2, 63, 42, 182, 2, 66, 132, 3, 1]
abbrev dktX7_chance_3 : List UInt8 := dkwX7_chance_3 ++ dktX7_chance_4
def dkwX7_chance_2 : List UInt8 := [46, 162, 0, 7, 4, 167, 0, 4, 3, 54, 4, 21, 4, 153, 0, 21, 42, 42, 42, 182, 2, 118]
abbrev dktX7_chance_2 : List UInt8 := dkwX7_chance_2 ++ dktX7_chance_3
def dkwX7_chance_1 : List UInt8 := [62, 29, 27, 162, 0, 69, 42, 182, 2, 72, 154, 0, 22, 42, 16, 100, 182, 2, 164, 42, 180, 0, 142, 6]
abbrev dktX7_chance_1 : List UInt8 := dkwX7_chance_1 ++ dktX7_chance_2
def dkwX7_chance_0 : List UInt8 := [42, 27, 4, 16, 30, 182, 2, 106, 154, 0, 9, 42, 6, 182, 2, 127, 172, 42, 182, 2, 151, 3, 61, 3]
abbrev dktX7_chance_0 : List UInt8 := dkwX7_chance_0 ++ dktX7_chance_1
theorem dksX7_chance_0 : cX7_chance.data.toList.drop 0 = dktX7_chance_0 := by decide +kernel
theorem dksX7_chance_1 : cX7_chance.data.toList.drop 24 = dktX7_chance_1 := dk_seg dksX7_chance_0 24 rfl rfl
theorem dksX7_chance_2 : cX7_chance.data.toList.drop 48 = dktX7_chance_2 := dk_seg dksX7_chance_1 24 rfl rfl
theorem dksX7_chance_3 : cX7_chance.data.toList.drop 70 = dktX7_chance_3 := dk_seg dksX7_chance_2 22 rfl rfl
theorem dksX7_chance_4 : cX7_chance.data.toList.drop 93 = dktX7_chance_4 := dk_seg dksX7_chance_3 23 rfl rfl
theorem dX7_chance_0 : decode cX7_chance 0 = .ok (.aload_n 0, 1) := dk_42 (dk_at dksX7_chance_0 0 rfl rfl)
theorem dX7_chance_1 : decode cX7_chance 1 = .ok (.iload_n 1, 1) := dk_27 (dk_at dksX7_chance_0 1 rfl rfl)
theorem dX7_chance_2 : decode cX7_chance 2 = .ok (.iconst 1, 1) := dk_4 (dk_at dksX7_chance_0 2 rfl rfl)
theorem dX7_chance_3 : decode cX7_chance 3 = .ok (.bipush 30, 2) := dk_16 30 (dk_at dksX7_chance_0 3 rfl rfl)
theorem dX7_chance_5 : decode cX7_chance 5 = .ok (.invokevirtual 618, 3) := dk_182 2 106 (dk_at dksX7_chance_0 5 rfl rfl)
theorem dX7_chance_8 : decode cX7_chance 8 = .ok (.ifCond .ne 9, 3) := dk_154 0 9 (dk_at dksX7_chance_0 8 rfl rfl)
theorem dX7_chance_11 : decode cX7_chance 11 = .ok (.aload_n 0, 1) := dk_42 (dk_at dksX7_chance_0 11 rfl rfl)
theorem dX7_chance_12 : decode cX7_chance 12 = .ok (.iconst 3, 1) := dk_6 (dk_at dksX7_chance_0 12 rfl rfl)
theorem dX7_chance_13 : decode cX7_chance 13 = .ok (.invokevirtual 639, 3) := dk_182 2 127 (dk_at dksX7_chance_0 13 rfl rfl)
theorem dX7_chance_16 : decode cX7_chance 16 = .ok (.ireturn, 1) := dk_172 (dk_at dksX7_chance_0 16 rfl rfl)
theorem dX7_chance_17 : decode cX7_chance 17 = .ok (.aload_n 0, 1) := dk_42 (dk_at dksX7_chance_0 17 rfl rfl)
theorem dX7_chance_18 : decode cX7_chance 18 = .ok (.invokevirtual 663, 3) := dk_182 2 151 (dk_at dksX7_chance_0 18 rfl rfl)
theorem dX7_chance_21 : decode cX7_chance 21 = .ok (.iconst 0, 1) := dk_3 (dk_at dksX7_chance_0 21 rfl rfl)
theorem dX7_chance_22 : decode cX7_chance 22 = .ok (.istore_n 2, 1) := dk_61 (dk_at dksX7_chance_0 22 rfl rfl)
theorem dX7_chance_23 : decode cX7_chance 23 = .ok (.iconst 0, 1) := dk_3 (dk_at dksX7_chance_0 23 rfl rfl)
theorem dX7_chance_24 : decode cX7_chance 24 = .ok (.istore_n 3, 1) := dk_62 (dk_at dksX7_chance_1 0 rfl rfl)
theorem dX7_chance_25 : decode cX7_chance 25 = .ok (.iload_n 3, 1) := dk_29 (dk_at dksX7_chance_1 1 rfl rfl)
theorem dX7_chance_26 : decode cX7_chance 26 = .ok (.iload_n 1, 1) := dk_27 (dk_at dksX7_chance_1 2 rfl rfl)
theorem dX7_chance_27 : decode cX7_chance 27 = .ok (.if_icmp .ge 69, 3) := dk_162 0 69 (dk_at dksX7_chance_1 3 rfl rfl)
theorem dX7_chance_30 : decode cX7_chance 30 = .ok (.aload_n 0, 1) := dk_42 (dk_at dksX7_chance_1 6 rfl rfl)
theorem dX7_chance_31 : decode cX7_chance 31 = .ok (.invokevirtual 584, 3) := dk_182 2 72 (dk_at dksX7_chance_1 7 rfl rfl)
theorem dX7_chance_34 : decode cX7_chance 34 = .ok (.ifCond .ne 22, 3) := dk_154 0 22 (dk_at dksX7_chance_1 10 rfl rfl)
theorem dX7_chance_37 : decode cX7_chance 37 = .ok (.aload_n 0, 1) := dk_42 (dk_at dksX7_chance_1 13 rfl rfl)
theorem dX7_chance_38 : decode cX7_chance 38 = .ok (.bipush 100, 2) := dk_16 100 (dk_at dksX7_chance_1 14 rfl rfl)
theorem dX7_chance_40 : decode cX7_chance 40 = .ok (.invokevirtual 676, 3) := dk_182 2 164 (dk_at dksX7_chance_1 16 rfl rfl)
theorem dX7_chance_43 : decode cX7_chance 43 = .ok (.aload_n 0, 1) := dk_42 (dk_at dksX7_chance_1 19 rfl rfl)
theorem dX7_chance_44 : decode cX7_chance 44 = .ok (.getfield 142, 3) := dk_180 0 142 (dk_at dksX7_chance_1 20 rfl rfl)
theorem dX7_chance_47 : decode cX7_chance 47 = .ok (.iconst 3, 1) := dk_6 (dk_at dksX7_chance_1 23 rfl rfl)
theorem dX7_chance_48 : decode cX7_chance 48 = .ok (.iaload, 1) := dk_46 (dk_at dksX7_chance_2 0 rfl rfl)
theorem dX7_chance_49 : decode cX7_chance 49 = .ok (.if_icmp .ge 7, 3) := dk_162 0 7 (dk_at dksX7_chance_2 1 rfl rfl)
theorem dX7_chance_52 : decode cX7_chance 52 = .ok (.iconst 1, 1) := dk_4 (dk_at dksX7_chance_2 4 rfl rfl)
theorem dX7_chance_53 : decode cX7_chance 53 = .ok (.goto 4, 3) := dk_167 0 4 (dk_at dksX7_chance_2 5 rfl rfl)
theorem dX7_chance_56 : decode cX7_chance 56 = .ok (.iconst 0, 1) := dk_3 (dk_at dksX7_chance_2 8 rfl rfl)
theorem dX7_chance_57 : decode cX7_chance 57 = .ok (.istore 4, 2) := dk_54 4 (dk_at dksX7_chance_2 9 rfl rfl)
theorem dX7_chance_59 : decode cX7_chance 59 = .ok (.iload 4, 2) := dk_21 4 (dk_at dksX7_chance_2 11 rfl rfl)
theorem dX7_chance_61 : decode cX7_chance 61 = .ok (.ifCond .eq 21, 3) := dk_153 0 21 (dk_at dksX7_chance_2 13 rfl rfl)
theorem dX7_chance_64 : decode cX7_chance 64 = .ok (.aload_n 0, 1) := dk_42 (dk_at dksX7_chance_2 16 rfl rfl)
theorem dX7_chance_65 : decode cX7_chance 65 = .ok (.aload_n 0, 1) := dk_42 (dk_at dksX7_chance_2 17 rfl rfl)
theorem dX7_chance_66 : decode cX7_chance 66 = .ok (.aload_n 0, 1) := dk_42 (dk_at dksX7_chance_2 18 rfl rfl)
theorem dX7_chance_67 : decode cX7_chance 67 = .ok (.invokevirtual 630, 3) := dk_182 2 118 (dk_at dksX7_chance_2 19 rfl rfl)
theorem dX7_chance_70 : decode cX7_chance 70 = .ok (.invokevirtual 676, 3) := dk_182 2 164 (dk_at dksX7_chance_3 0 rfl rfl)
theorem dX7_chance_73 : decode cX7_chance 73 = .ok (.invokevirtual 607, 3) := dk_182 2 95 (dk_at dksX7_chance_3 3 rfl rfl)
theorem dX7_chance_76 : decode cX7_chance 76 = .ok (.iinc 2 1, 3) := dk_132 2 1 (dk_at dksX7_chance_3 6 rfl rfl)
theorem dX7_chance_79 : decode cX7_chance 79 = .ok (.goto 7, 3) := dk_167 0 7 (dk_at dksX7_chance_3 9 rfl rfl)
theorem dX7_chance_82 : decode cX7_chance 82 = .ok (.aload_n 0, 1) := dk_42 (dk_at dksX7_chance_3 12 rfl rfl)
theorem dX7_chance_83 : decode cX7_chance 83 = .ok (.invokevirtual 575, 3) := dk_182 2 63 (dk_at dksX7_chance_3 13 rfl rfl)
theorem dX7_chance_86 : decode cX7_chance 86 = .ok (.aload_n 0, 1) := dk_42 (dk_at dksX7_chance_3 16 rfl rfl)
theorem dX7_chance_87 : decode cX7_chance 87 = .ok (.invokevirtual 578, 3) := dk_182 2 66 (dk_at dksX7_chance_3 17 rfl rfl)
theorem dX7_chance_90 : decode cX7_chance 90 = .ok (.iinc 3 1, 3) := dk_132 3 1 (dk_at dksX7_chance_3 20 rfl rfl)
theorem dX7_chance_93 : decode cX7_chance 93 = .ok (.goto (-68), 3) := dk_167 255 188 (dk_at dksX7_chance_4 0 rfl rfl)
theorem dX7_chance_96 : decode cX7_chance 96 = .ok (.iload_n 2, 1) := dk_28 (dk_at dksX7_chance_4 3 rfl rfl)
theorem dX7_chance_97 : decode cX7_chance 97 = .ok (.ireturn, 1) := dk_172 (dk_at dksX7_chance_4 4 rfl rfl)
abbrev cX7_drawOf : ByteArray := prog_25_method_114_code
def yX7_drawOf : MethodName := ⟨RX7, "drawOf", "(I)I"⟩
def dkwX7_drawOf_1 : List UInt8 := [20, 2, 162, 109, 27, 133, 113, 136, 172]
abbrev dktX7_drawOf_1 : List UInt8 := dkwX7_drawOf_1 ++ []
def dkwX7_drawOf_0 : List UInt8 := [42, 20, 2, 156, 42, 180, 0, 190, 105, 20, 2, 158, 97, 20, 2, 160, 113, 181, 0, 190, 42, 180, 0, 190]
abbrev dktX7_drawOf_0 : List UInt8 := dkwX7_drawOf_0 ++ dktX7_drawOf_1
theorem dksX7_drawOf_0 : cX7_drawOf.data.toList.drop 0 = dktX7_drawOf_0 := by decide +kernel
theorem dksX7_drawOf_1 : cX7_drawOf.data.toList.drop 24 = dktX7_drawOf_1 := dk_seg dksX7_drawOf_0 24 rfl rfl
theorem dX7_drawOf_0 : decode cX7_drawOf 0 = .ok (.aload_n 0, 1) := dk_42 (dk_at dksX7_drawOf_0 0 rfl rfl)
theorem dX7_drawOf_1 : decode cX7_drawOf 1 = .ok (.ldc2_w 668, 3) := dk_20 2 156 (dk_at dksX7_drawOf_0 1 rfl rfl)
theorem dX7_drawOf_4 : decode cX7_drawOf 4 = .ok (.aload_n 0, 1) := dk_42 (dk_at dksX7_drawOf_0 4 rfl rfl)
theorem dX7_drawOf_5 : decode cX7_drawOf 5 = .ok (.getfield 190, 3) := dk_180 0 190 (dk_at dksX7_drawOf_0 5 rfl rfl)
theorem dX7_drawOf_8 : decode cX7_drawOf 8 = .ok (.lmul, 1) := dk_105 (dk_at dksX7_drawOf_0 8 rfl rfl)
theorem dX7_drawOf_9 : decode cX7_drawOf 9 = .ok (.ldc2_w 670, 3) := dk_20 2 158 (dk_at dksX7_drawOf_0 9 rfl rfl)
theorem dX7_drawOf_12 : decode cX7_drawOf 12 = .ok (.ladd, 1) := dk_97 (dk_at dksX7_drawOf_0 12 rfl rfl)
theorem dX7_drawOf_13 : decode cX7_drawOf 13 = .ok (.ldc2_w 672, 3) := dk_20 2 160 (dk_at dksX7_drawOf_0 13 rfl rfl)
theorem dX7_drawOf_16 : decode cX7_drawOf 16 = .ok (.lrem, 1) := dk_113 (dk_at dksX7_drawOf_0 16 rfl rfl)
theorem dX7_drawOf_17 : decode cX7_drawOf 17 = .ok (.putfield 190, 3) := dk_181 0 190 (dk_at dksX7_drawOf_0 17 rfl rfl)
theorem dX7_drawOf_20 : decode cX7_drawOf 20 = .ok (.aload_n 0, 1) := dk_42 (dk_at dksX7_drawOf_0 20 rfl rfl)
theorem dX7_drawOf_21 : decode cX7_drawOf 21 = .ok (.getfield 190, 3) := dk_180 0 190 (dk_at dksX7_drawOf_0 21 rfl rfl)
theorem dX7_drawOf_24 : decode cX7_drawOf 24 = .ok (.ldc2_w 674, 3) := dk_20 2 162 (dk_at dksX7_drawOf_1 0 rfl rfl)
theorem dX7_drawOf_27 : decode cX7_drawOf 27 = .ok (.ldiv, 1) := dk_109 (dk_at dksX7_drawOf_1 3 rfl rfl)
theorem dX7_drawOf_28 : decode cX7_drawOf 28 = .ok (.iload_n 1, 1) := dk_27 (dk_at dksX7_drawOf_1 4 rfl rfl)
theorem dX7_drawOf_29 : decode cX7_drawOf 29 = .ok (.i2l, 1) := dk_133 (dk_at dksX7_drawOf_1 5 rfl rfl)
theorem dX7_drawOf_30 : decode cX7_drawOf 30 = .ok (.lrem, 1) := dk_113 (dk_at dksX7_drawOf_1 6 rfl rfl)
theorem dX7_drawOf_31 : decode cX7_drawOf 31 = .ok (.l2i, 1) := dk_136 (dk_at dksX7_drawOf_1 7 rfl rfl)
theorem dX7_drawOf_32 : decode cX7_drawOf 32 = .ok (.ireturn, 1) := dk_172 (dk_at dksX7_drawOf_1 8 rfl rfl)
abbrev cX7_ask : ByteArray := prog_25_method_144_code
def yX7_ask : MethodName := ⟨RX7, "ask", "()J"⟩
def dkwX7_ask_11 : List UInt8 := [132, 2, 1, 167, 255, 226, 42, 180, 2, 237, 173]
abbrev dktX7_ask_11 : List UInt8 := dkwX7_ask_11 ++ []
def dkwX7_ask_10 : List UInt8 := [162, 0, 28, 42, 28, 182, 1, 202, 154, 0, 14, 42, 27, 42, 28, 182, 2, 251, 28, 182, 2, 255]
abbrev dktX7_ask_10 : List UInt8 := dkwX7_ask_10 ++ dktX7_ask_11
def dkwX7_ask_9 : List UInt8 := [28, 182, 1, 222, 79, 132, 2, 1, 167, 255, 222, 42, 3, 181, 1, 80, 3, 61, 28, 42, 182, 1, 177]
abbrev dktX7_ask_9 : List UInt8 := dkwX7_ask_9 ++ dktX7_ask_10
def dkwX7_ask_8 : List UInt8 := [182, 1, 177, 162, 0, 32, 42, 180, 0, 172, 28, 42, 28, 182, 1, 202, 153, 0, 7, 3, 167, 0, 8, 42]
abbrev dktX7_ask_8 : List UInt8 := dkwX7_ask_8 ++ dktX7_ask_9
def dkwX7_ask_7 : List UInt8 := [5, 162, 0, 9, 20, 2, 240, 167, 0, 4, 9, 181, 2, 237, 42, 4, 181, 2, 242, 3, 61, 28, 42]
abbrev dktX7_ask_7 : List UInt8 := dkwX7_ask_7 ++ dktX7_ask_8
def dkwX7_ask_6 : List UInt8 := [181, 1, 162, 42, 42, 180, 1, 25, 181, 0, 13, 42, 180, 1, 22, 153, 0, 7, 20, 2, 98, 173, 42, 27]
abbrev dktX7_ask_6 : List UInt8 := dkwX7_ask_6 ++ dktX7_ask_7
def dkwX7_ask_5 : List UInt8 := [42, 182, 1, 34, 2, 159, 0, 12, 42, 4, 42, 180, 1, 28, 182, 1, 52, 42, 42, 180, 1, 22]
abbrev dktX7_ask_5 : List UInt8 := dkwX7_ask_5 ++ dktX7_ask_6
def dkwX7_ask_4 : List UInt8 := [182, 2, 248, 167, 0, 14, 42, 180, 1, 22, 154, 0, 7, 42, 182, 1, 135, 42, 180, 1, 22, 154, 0, 20]
abbrev dktX7_ask_4 : List UInt8 := dkwX7_ask_4 ++ dktX7_ask_5
def dkwX7_ask_3 : List UInt8 := [3, 181, 1, 132, 42, 182, 2, 245, 60, 42, 180, 1, 22, 154, 0, 15, 27, 6, 162, 0, 10, 42]
abbrev dktX7_ask_3 : List UInt8 := dkwX7_ask_3 ++ dktX7_ask_4
def dkwX7_ask_2 : List UInt8 := [181, 1, 25, 42, 3, 181, 1, 80, 42, 3, 181, 1, 123, 42, 3, 181, 1, 126, 42, 3, 181, 1, 129, 42]
abbrev dktX7_ask_2 : List UInt8 := dkwX7_ask_2 ++ dktX7_ask_3
def dkwX7_ask_1 : List UInt8 := [42, 3, 181, 1, 19, 42, 3, 181, 1, 28, 42, 2, 181, 1, 42, 42, 3, 181, 1, 22, 42, 2]
abbrev dktX7_ask_1 : List UInt8 := dkwX7_ask_1 ++ dktX7_ask_2
def dkwX7_ask_0 : List UInt8 := [42, 180, 1, 168, 154, 0, 12, 42, 3, 181, 1, 19, 20, 2, 98, 173, 42, 42, 180, 1, 19, 181, 1, 31]
abbrev dktX7_ask_0 : List UInt8 := dkwX7_ask_0 ++ dktX7_ask_1
theorem dksX7_ask_0 : cX7_ask.data.toList.drop 0 = dktX7_ask_0 := by decide +kernel
theorem dksX7_ask_1 : cX7_ask.data.toList.drop 24 = dktX7_ask_1 := dk_seg dksX7_ask_0 24 rfl rfl
theorem dksX7_ask_2 : cX7_ask.data.toList.drop 46 = dktX7_ask_2 := dk_seg dksX7_ask_1 22 rfl rfl
theorem dksX7_ask_3 : cX7_ask.data.toList.drop 70 = dktX7_ask_3 := dk_seg dksX7_ask_2 24 rfl rfl
theorem dksX7_ask_4 : cX7_ask.data.toList.drop 92 = dktX7_ask_4 := dk_seg dksX7_ask_3 22 rfl rfl
theorem dksX7_ask_5 : cX7_ask.data.toList.drop 116 = dktX7_ask_5 := dk_seg dksX7_ask_4 24 rfl rfl
theorem dksX7_ask_6 : cX7_ask.data.toList.drop 138 = dktX7_ask_6 := dk_seg dksX7_ask_5 22 rfl rfl
theorem dksX7_ask_7 : cX7_ask.data.toList.drop 162 = dktX7_ask_7 := dk_seg dksX7_ask_6 24 rfl rfl
theorem dksX7_ask_8 : cX7_ask.data.toList.drop 185 = dktX7_ask_8 := dk_seg dksX7_ask_7 23 rfl rfl
theorem dksX7_ask_9 : cX7_ask.data.toList.drop 209 = dktX7_ask_9 := dk_seg dksX7_ask_8 24 rfl rfl
theorem dksX7_ask_10 : cX7_ask.data.toList.drop 232 = dktX7_ask_10 := dk_seg dksX7_ask_9 23 rfl rfl
theorem dksX7_ask_11 : cX7_ask.data.toList.drop 254 = dktX7_ask_11 := dk_seg dksX7_ask_10 22 rfl rfl
theorem dX7_ask_0 : decode cX7_ask 0 = .ok (.aload_n 0, 1) := dk_42 (dk_at dksX7_ask_0 0 rfl rfl)
theorem dX7_ask_1 : decode cX7_ask 1 = .ok (.getfield 424, 3) := dk_180 1 168 (dk_at dksX7_ask_0 1 rfl rfl)
theorem dX7_ask_4 : decode cX7_ask 4 = .ok (.ifCond .ne 12, 3) := dk_154 0 12 (dk_at dksX7_ask_0 4 rfl rfl)
theorem dX7_ask_7 : decode cX7_ask 7 = .ok (.aload_n 0, 1) := dk_42 (dk_at dksX7_ask_0 7 rfl rfl)
theorem dX7_ask_8 : decode cX7_ask 8 = .ok (.iconst 0, 1) := dk_3 (dk_at dksX7_ask_0 8 rfl rfl)
theorem dX7_ask_9 : decode cX7_ask 9 = .ok (.putfield 275, 3) := dk_181 1 19 (dk_at dksX7_ask_0 9 rfl rfl)
theorem dX7_ask_12 : decode cX7_ask 12 = .ok (.ldc2_w 610, 3) := dk_20 2 98 (dk_at dksX7_ask_0 12 rfl rfl)
theorem dX7_ask_15 : decode cX7_ask 15 = .ok (.lreturn, 1) := dk_173 (dk_at dksX7_ask_0 15 rfl rfl)
theorem dX7_ask_16 : decode cX7_ask 16 = .ok (.aload_n 0, 1) := dk_42 (dk_at dksX7_ask_0 16 rfl rfl)
theorem dX7_ask_17 : decode cX7_ask 17 = .ok (.aload_n 0, 1) := dk_42 (dk_at dksX7_ask_0 17 rfl rfl)
theorem dX7_ask_18 : decode cX7_ask 18 = .ok (.getfield 275, 3) := dk_180 1 19 (dk_at dksX7_ask_0 18 rfl rfl)
theorem dX7_ask_21 : decode cX7_ask 21 = .ok (.putfield 287, 3) := dk_181 1 31 (dk_at dksX7_ask_0 21 rfl rfl)
theorem dX7_ask_24 : decode cX7_ask 24 = .ok (.aload_n 0, 1) := dk_42 (dk_at dksX7_ask_1 0 rfl rfl)
theorem dX7_ask_25 : decode cX7_ask 25 = .ok (.iconst 0, 1) := dk_3 (dk_at dksX7_ask_1 1 rfl rfl)
theorem dX7_ask_26 : decode cX7_ask 26 = .ok (.putfield 275, 3) := dk_181 1 19 (dk_at dksX7_ask_1 2 rfl rfl)
theorem dX7_ask_29 : decode cX7_ask 29 = .ok (.aload_n 0, 1) := dk_42 (dk_at dksX7_ask_1 5 rfl rfl)
theorem dX7_ask_30 : decode cX7_ask 30 = .ok (.iconst 0, 1) := dk_3 (dk_at dksX7_ask_1 6 rfl rfl)
theorem dX7_ask_31 : decode cX7_ask 31 = .ok (.putfield 284, 3) := dk_181 1 28 (dk_at dksX7_ask_1 7 rfl rfl)
theorem dX7_ask_34 : decode cX7_ask 34 = .ok (.aload_n 0, 1) := dk_42 (dk_at dksX7_ask_1 10 rfl rfl)
theorem dX7_ask_35 : decode cX7_ask 35 = .ok (.iconst (-1), 1) := dk_2 (dk_at dksX7_ask_1 11 rfl rfl)
theorem dX7_ask_36 : decode cX7_ask 36 = .ok (.putfield 298, 3) := dk_181 1 42 (dk_at dksX7_ask_1 12 rfl rfl)
theorem dX7_ask_39 : decode cX7_ask 39 = .ok (.aload_n 0, 1) := dk_42 (dk_at dksX7_ask_1 15 rfl rfl)
theorem dX7_ask_40 : decode cX7_ask 40 = .ok (.iconst 0, 1) := dk_3 (dk_at dksX7_ask_1 16 rfl rfl)
theorem dX7_ask_41 : decode cX7_ask 41 = .ok (.putfield 278, 3) := dk_181 1 22 (dk_at dksX7_ask_1 17 rfl rfl)
theorem dX7_ask_44 : decode cX7_ask 44 = .ok (.aload_n 0, 1) := dk_42 (dk_at dksX7_ask_1 20 rfl rfl)
theorem dX7_ask_45 : decode cX7_ask 45 = .ok (.iconst (-1), 1) := dk_2 (dk_at dksX7_ask_1 21 rfl rfl)
theorem dX7_ask_46 : decode cX7_ask 46 = .ok (.putfield 281, 3) := dk_181 1 25 (dk_at dksX7_ask_2 0 rfl rfl)
theorem dX7_ask_49 : decode cX7_ask 49 = .ok (.aload_n 0, 1) := dk_42 (dk_at dksX7_ask_2 3 rfl rfl)
theorem dX7_ask_50 : decode cX7_ask 50 = .ok (.iconst 0, 1) := dk_3 (dk_at dksX7_ask_2 4 rfl rfl)
theorem dX7_ask_51 : decode cX7_ask 51 = .ok (.putfield 336, 3) := dk_181 1 80 (dk_at dksX7_ask_2 5 rfl rfl)
theorem dX7_ask_54 : decode cX7_ask 54 = .ok (.aload_n 0, 1) := dk_42 (dk_at dksX7_ask_2 8 rfl rfl)
theorem dX7_ask_55 : decode cX7_ask 55 = .ok (.iconst 0, 1) := dk_3 (dk_at dksX7_ask_2 9 rfl rfl)
theorem dX7_ask_56 : decode cX7_ask 56 = .ok (.putfield 379, 3) := dk_181 1 123 (dk_at dksX7_ask_2 10 rfl rfl)
theorem dX7_ask_59 : decode cX7_ask 59 = .ok (.aload_n 0, 1) := dk_42 (dk_at dksX7_ask_2 13 rfl rfl)
theorem dX7_ask_60 : decode cX7_ask 60 = .ok (.iconst 0, 1) := dk_3 (dk_at dksX7_ask_2 14 rfl rfl)
theorem dX7_ask_61 : decode cX7_ask 61 = .ok (.putfield 382, 3) := dk_181 1 126 (dk_at dksX7_ask_2 15 rfl rfl)
theorem dX7_ask_64 : decode cX7_ask 64 = .ok (.aload_n 0, 1) := dk_42 (dk_at dksX7_ask_2 18 rfl rfl)
theorem dX7_ask_65 : decode cX7_ask 65 = .ok (.iconst 0, 1) := dk_3 (dk_at dksX7_ask_2 19 rfl rfl)
theorem dX7_ask_66 : decode cX7_ask 66 = .ok (.putfield 385, 3) := dk_181 1 129 (dk_at dksX7_ask_2 20 rfl rfl)
theorem dX7_ask_69 : decode cX7_ask 69 = .ok (.aload_n 0, 1) := dk_42 (dk_at dksX7_ask_2 23 rfl rfl)
theorem dX7_ask_70 : decode cX7_ask 70 = .ok (.iconst 0, 1) := dk_3 (dk_at dksX7_ask_3 0 rfl rfl)
theorem dX7_ask_71 : decode cX7_ask 71 = .ok (.putfield 388, 3) := dk_181 1 132 (dk_at dksX7_ask_3 1 rfl rfl)
theorem dX7_ask_74 : decode cX7_ask 74 = .ok (.aload_n 0, 1) := dk_42 (dk_at dksX7_ask_3 4 rfl rfl)
theorem dX7_ask_75 : decode cX7_ask 75 = .ok (.invokevirtual 757, 3) := dk_182 2 245 (dk_at dksX7_ask_3 5 rfl rfl)
theorem dX7_ask_78 : decode cX7_ask 78 = .ok (.istore_n 1, 1) := dk_60 (dk_at dksX7_ask_3 8 rfl rfl)
theorem dX7_ask_79 : decode cX7_ask 79 = .ok (.aload_n 0, 1) := dk_42 (dk_at dksX7_ask_3 9 rfl rfl)
theorem dX7_ask_80 : decode cX7_ask 80 = .ok (.getfield 278, 3) := dk_180 1 22 (dk_at dksX7_ask_3 10 rfl rfl)
theorem dX7_ask_83 : decode cX7_ask 83 = .ok (.ifCond .ne 15, 3) := dk_154 0 15 (dk_at dksX7_ask_3 13 rfl rfl)
theorem dX7_ask_86 : decode cX7_ask 86 = .ok (.iload_n 1, 1) := dk_27 (dk_at dksX7_ask_3 16 rfl rfl)
theorem dX7_ask_87 : decode cX7_ask 87 = .ok (.iconst 3, 1) := dk_6 (dk_at dksX7_ask_3 17 rfl rfl)
theorem dX7_ask_88 : decode cX7_ask 88 = .ok (.if_icmp .ge 10, 3) := dk_162 0 10 (dk_at dksX7_ask_3 18 rfl rfl)
theorem dX7_ask_91 : decode cX7_ask 91 = .ok (.aload_n 0, 1) := dk_42 (dk_at dksX7_ask_3 21 rfl rfl)
theorem dX7_ask_92 : decode cX7_ask 92 = .ok (.invokevirtual 760, 3) := dk_182 2 248 (dk_at dksX7_ask_4 0 rfl rfl)
theorem dX7_ask_95 : decode cX7_ask 95 = .ok (.goto 14, 3) := dk_167 0 14 (dk_at dksX7_ask_4 3 rfl rfl)
theorem dX7_ask_98 : decode cX7_ask 98 = .ok (.aload_n 0, 1) := dk_42 (dk_at dksX7_ask_4 6 rfl rfl)
theorem dX7_ask_99 : decode cX7_ask 99 = .ok (.getfield 278, 3) := dk_180 1 22 (dk_at dksX7_ask_4 7 rfl rfl)
theorem dX7_ask_102 : decode cX7_ask 102 = .ok (.ifCond .ne 7, 3) := dk_154 0 7 (dk_at dksX7_ask_4 10 rfl rfl)
theorem dX7_ask_105 : decode cX7_ask 105 = .ok (.aload_n 0, 1) := dk_42 (dk_at dksX7_ask_4 13 rfl rfl)
theorem dX7_ask_106 : decode cX7_ask 106 = .ok (.invokevirtual 391, 3) := dk_182 1 135 (dk_at dksX7_ask_4 14 rfl rfl)
theorem dX7_ask_109 : decode cX7_ask 109 = .ok (.aload_n 0, 1) := dk_42 (dk_at dksX7_ask_4 17 rfl rfl)
theorem dX7_ask_110 : decode cX7_ask 110 = .ok (.getfield 278, 3) := dk_180 1 22 (dk_at dksX7_ask_4 18 rfl rfl)
theorem dX7_ask_113 : decode cX7_ask 113 = .ok (.ifCond .ne 20, 3) := dk_154 0 20 (dk_at dksX7_ask_4 21 rfl rfl)
theorem dX7_ask_116 : decode cX7_ask 116 = .ok (.aload_n 0, 1) := dk_42 (dk_at dksX7_ask_5 0 rfl rfl)
theorem dX7_ask_117 : decode cX7_ask 117 = .ok (.invokevirtual 290, 3) := dk_182 1 34 (dk_at dksX7_ask_5 1 rfl rfl)
theorem dX7_ask_120 : decode cX7_ask 120 = .ok (.iconst (-1), 1) := dk_2 (dk_at dksX7_ask_5 4 rfl rfl)
theorem dX7_ask_121 : decode cX7_ask 121 = .ok (.if_icmp .eq 12, 3) := dk_159 0 12 (dk_at dksX7_ask_5 5 rfl rfl)
theorem dX7_ask_124 : decode cX7_ask 124 = .ok (.aload_n 0, 1) := dk_42 (dk_at dksX7_ask_5 8 rfl rfl)
theorem dX7_ask_125 : decode cX7_ask 125 = .ok (.iconst 1, 1) := dk_4 (dk_at dksX7_ask_5 9 rfl rfl)
theorem dX7_ask_126 : decode cX7_ask 126 = .ok (.aload_n 0, 1) := dk_42 (dk_at dksX7_ask_5 10 rfl rfl)
theorem dX7_ask_127 : decode cX7_ask 127 = .ok (.getfield 284, 3) := dk_180 1 28 (dk_at dksX7_ask_5 11 rfl rfl)
theorem dX7_ask_130 : decode cX7_ask 130 = .ok (.invokevirtual 308, 3) := dk_182 1 52 (dk_at dksX7_ask_5 14 rfl rfl)
theorem dX7_ask_133 : decode cX7_ask 133 = .ok (.aload_n 0, 1) := dk_42 (dk_at dksX7_ask_5 17 rfl rfl)
theorem dX7_ask_134 : decode cX7_ask 134 = .ok (.aload_n 0, 1) := dk_42 (dk_at dksX7_ask_5 18 rfl rfl)
theorem dX7_ask_135 : decode cX7_ask 135 = .ok (.getfield 278, 3) := dk_180 1 22 (dk_at dksX7_ask_5 19 rfl rfl)
theorem dX7_ask_138 : decode cX7_ask 138 = .ok (.putfield 418, 3) := dk_181 1 162 (dk_at dksX7_ask_6 0 rfl rfl)
theorem dX7_ask_141 : decode cX7_ask 141 = .ok (.aload_n 0, 1) := dk_42 (dk_at dksX7_ask_6 3 rfl rfl)
theorem dX7_ask_142 : decode cX7_ask 142 = .ok (.aload_n 0, 1) := dk_42 (dk_at dksX7_ask_6 4 rfl rfl)
theorem dX7_ask_143 : decode cX7_ask 143 = .ok (.getfield 281, 3) := dk_180 1 25 (dk_at dksX7_ask_6 5 rfl rfl)
theorem dX7_ask_146 : decode cX7_ask 146 = .ok (.putfield 13, 3) := dk_181 0 13 (dk_at dksX7_ask_6 8 rfl rfl)
theorem dX7_ask_149 : decode cX7_ask 149 = .ok (.aload_n 0, 1) := dk_42 (dk_at dksX7_ask_6 11 rfl rfl)
theorem dX7_ask_150 : decode cX7_ask 150 = .ok (.getfield 278, 3) := dk_180 1 22 (dk_at dksX7_ask_6 12 rfl rfl)
theorem dX7_ask_153 : decode cX7_ask 153 = .ok (.ifCond .eq 7, 3) := dk_153 0 7 (dk_at dksX7_ask_6 15 rfl rfl)
theorem dX7_ask_156 : decode cX7_ask 156 = .ok (.ldc2_w 610, 3) := dk_20 2 98 (dk_at dksX7_ask_6 18 rfl rfl)
theorem dX7_ask_159 : decode cX7_ask 159 = .ok (.lreturn, 1) := dk_173 (dk_at dksX7_ask_6 21 rfl rfl)
theorem dX7_ask_160 : decode cX7_ask 160 = .ok (.aload_n 0, 1) := dk_42 (dk_at dksX7_ask_6 22 rfl rfl)
theorem dX7_ask_161 : decode cX7_ask 161 = .ok (.iload_n 1, 1) := dk_27 (dk_at dksX7_ask_6 23 rfl rfl)
theorem dX7_ask_162 : decode cX7_ask 162 = .ok (.iconst 2, 1) := dk_5 (dk_at dksX7_ask_7 0 rfl rfl)
theorem dX7_ask_163 : decode cX7_ask 163 = .ok (.if_icmp .ge 9, 3) := dk_162 0 9 (dk_at dksX7_ask_7 1 rfl rfl)
theorem dX7_ask_166 : decode cX7_ask 166 = .ok (.ldc2_w 752, 3) := dk_20 2 240 (dk_at dksX7_ask_7 4 rfl rfl)
theorem dX7_ask_169 : decode cX7_ask 169 = .ok (.goto 4, 3) := dk_167 0 4 (dk_at dksX7_ask_7 7 rfl rfl)
theorem dX7_ask_172 : decode cX7_ask 172 = .ok (.lconst 0, 1) := dk_9 (dk_at dksX7_ask_7 10 rfl rfl)
theorem dX7_ask_173 : decode cX7_ask 173 = .ok (.putfield 749, 3) := dk_181 2 237 (dk_at dksX7_ask_7 11 rfl rfl)
theorem dX7_ask_176 : decode cX7_ask 176 = .ok (.aload_n 0, 1) := dk_42 (dk_at dksX7_ask_7 14 rfl rfl)
theorem dX7_ask_177 : decode cX7_ask 177 = .ok (.iconst 1, 1) := dk_4 (dk_at dksX7_ask_7 15 rfl rfl)
theorem dX7_ask_178 : decode cX7_ask 178 = .ok (.putfield 754, 3) := dk_181 2 242 (dk_at dksX7_ask_7 16 rfl rfl)
theorem dX7_ask_181 : decode cX7_ask 181 = .ok (.iconst 0, 1) := dk_3 (dk_at dksX7_ask_7 19 rfl rfl)
theorem dX7_ask_182 : decode cX7_ask 182 = .ok (.istore_n 2, 1) := dk_61 (dk_at dksX7_ask_7 20 rfl rfl)
theorem dX7_ask_183 : decode cX7_ask 183 = .ok (.iload_n 2, 1) := dk_28 (dk_at dksX7_ask_7 21 rfl rfl)
theorem dX7_ask_184 : decode cX7_ask 184 = .ok (.aload_n 0, 1) := dk_42 (dk_at dksX7_ask_7 22 rfl rfl)
theorem dX7_ask_185 : decode cX7_ask 185 = .ok (.invokevirtual 433, 3) := dk_182 1 177 (dk_at dksX7_ask_8 0 rfl rfl)
theorem dX7_ask_188 : decode cX7_ask 188 = .ok (.if_icmp .ge 32, 3) := dk_162 0 32 (dk_at dksX7_ask_8 3 rfl rfl)
theorem dX7_ask_191 : decode cX7_ask 191 = .ok (.aload_n 0, 1) := dk_42 (dk_at dksX7_ask_8 6 rfl rfl)
theorem dX7_ask_192 : decode cX7_ask 192 = .ok (.getfield 172, 3) := dk_180 0 172 (dk_at dksX7_ask_8 7 rfl rfl)
theorem dX7_ask_195 : decode cX7_ask 195 = .ok (.iload_n 2, 1) := dk_28 (dk_at dksX7_ask_8 10 rfl rfl)
theorem dX7_ask_196 : decode cX7_ask 196 = .ok (.aload_n 0, 1) := dk_42 (dk_at dksX7_ask_8 11 rfl rfl)
theorem dX7_ask_197 : decode cX7_ask 197 = .ok (.iload_n 2, 1) := dk_28 (dk_at dksX7_ask_8 12 rfl rfl)
theorem dX7_ask_198 : decode cX7_ask 198 = .ok (.invokevirtual 458, 3) := dk_182 1 202 (dk_at dksX7_ask_8 13 rfl rfl)
theorem dX7_ask_201 : decode cX7_ask 201 = .ok (.ifCond .eq 7, 3) := dk_153 0 7 (dk_at dksX7_ask_8 16 rfl rfl)
theorem dX7_ask_204 : decode cX7_ask 204 = .ok (.iconst 0, 1) := dk_3 (dk_at dksX7_ask_8 19 rfl rfl)
theorem dX7_ask_205 : decode cX7_ask 205 = .ok (.goto 8, 3) := dk_167 0 8 (dk_at dksX7_ask_8 20 rfl rfl)
theorem dX7_ask_208 : decode cX7_ask 208 = .ok (.aload_n 0, 1) := dk_42 (dk_at dksX7_ask_8 23 rfl rfl)
theorem dX7_ask_209 : decode cX7_ask 209 = .ok (.iload_n 2, 1) := dk_28 (dk_at dksX7_ask_9 0 rfl rfl)
theorem dX7_ask_210 : decode cX7_ask 210 = .ok (.invokevirtual 478, 3) := dk_182 1 222 (dk_at dksX7_ask_9 1 rfl rfl)
theorem dX7_ask_213 : decode cX7_ask 213 = .ok (.iastore, 1) := dk_79 (dk_at dksX7_ask_9 4 rfl rfl)
theorem dX7_ask_214 : decode cX7_ask 214 = .ok (.iinc 2 1, 3) := dk_132 2 1 (dk_at dksX7_ask_9 5 rfl rfl)
theorem dX7_ask_217 : decode cX7_ask 217 = .ok (.goto (-34), 3) := dk_167 255 222 (dk_at dksX7_ask_9 8 rfl rfl)
theorem dX7_ask_220 : decode cX7_ask 220 = .ok (.aload_n 0, 1) := dk_42 (dk_at dksX7_ask_9 11 rfl rfl)
theorem dX7_ask_221 : decode cX7_ask 221 = .ok (.iconst 0, 1) := dk_3 (dk_at dksX7_ask_9 12 rfl rfl)
theorem dX7_ask_222 : decode cX7_ask 222 = .ok (.putfield 336, 3) := dk_181 1 80 (dk_at dksX7_ask_9 13 rfl rfl)
theorem dX7_ask_225 : decode cX7_ask 225 = .ok (.iconst 0, 1) := dk_3 (dk_at dksX7_ask_9 16 rfl rfl)
theorem dX7_ask_226 : decode cX7_ask 226 = .ok (.istore_n 2, 1) := dk_61 (dk_at dksX7_ask_9 17 rfl rfl)
theorem dX7_ask_227 : decode cX7_ask 227 = .ok (.iload_n 2, 1) := dk_28 (dk_at dksX7_ask_9 18 rfl rfl)
theorem dX7_ask_228 : decode cX7_ask 228 = .ok (.aload_n 0, 1) := dk_42 (dk_at dksX7_ask_9 19 rfl rfl)
theorem dX7_ask_229 : decode cX7_ask 229 = .ok (.invokevirtual 433, 3) := dk_182 1 177 (dk_at dksX7_ask_9 20 rfl rfl)
theorem dX7_ask_232 : decode cX7_ask 232 = .ok (.if_icmp .ge 28, 3) := dk_162 0 28 (dk_at dksX7_ask_10 0 rfl rfl)
theorem dX7_ask_235 : decode cX7_ask 235 = .ok (.aload_n 0, 1) := dk_42 (dk_at dksX7_ask_10 3 rfl rfl)
theorem dX7_ask_236 : decode cX7_ask 236 = .ok (.iload_n 2, 1) := dk_28 (dk_at dksX7_ask_10 4 rfl rfl)
theorem dX7_ask_237 : decode cX7_ask 237 = .ok (.invokevirtual 458, 3) := dk_182 1 202 (dk_at dksX7_ask_10 5 rfl rfl)
theorem dX7_ask_240 : decode cX7_ask 240 = .ok (.ifCond .ne 14, 3) := dk_154 0 14 (dk_at dksX7_ask_10 8 rfl rfl)
theorem dX7_ask_243 : decode cX7_ask 243 = .ok (.aload_n 0, 1) := dk_42 (dk_at dksX7_ask_10 11 rfl rfl)
theorem dX7_ask_244 : decode cX7_ask 244 = .ok (.iload_n 1, 1) := dk_27 (dk_at dksX7_ask_10 12 rfl rfl)
theorem dX7_ask_245 : decode cX7_ask 245 = .ok (.aload_n 0, 1) := dk_42 (dk_at dksX7_ask_10 13 rfl rfl)
theorem dX7_ask_246 : decode cX7_ask 246 = .ok (.iload_n 2, 1) := dk_28 (dk_at dksX7_ask_10 14 rfl rfl)
theorem dX7_ask_247 : decode cX7_ask 247 = .ok (.invokevirtual 763, 3) := dk_182 2 251 (dk_at dksX7_ask_10 15 rfl rfl)
theorem dX7_ask_250 : decode cX7_ask 250 = .ok (.iload_n 2, 1) := dk_28 (dk_at dksX7_ask_10 18 rfl rfl)
theorem dX7_ask_251 : decode cX7_ask 251 = .ok (.invokevirtual 767, 3) := dk_182 2 255 (dk_at dksX7_ask_10 19 rfl rfl)
theorem dX7_ask_254 : decode cX7_ask 254 = .ok (.iinc 2 1, 3) := dk_132 2 1 (dk_at dksX7_ask_11 0 rfl rfl)
theorem dX7_ask_257 : decode cX7_ask 257 = .ok (.goto (-30), 3) := dk_167 255 226 (dk_at dksX7_ask_11 3 rfl rfl)
theorem dX7_ask_260 : decode cX7_ask 260 = .ok (.aload_n 0, 1) := dk_42 (dk_at dksX7_ask_11 6 rfl rfl)
theorem dX7_ask_261 : decode cX7_ask 261 = .ok (.getfield 749, 3) := dk_180 2 237 (dk_at dksX7_ask_11 7 rfl rfl)
theorem dX7_ask_264 : decode cX7_ask 264 = .ok (.lreturn, 1) := dk_173 (dk_at dksX7_ask_11 10 rfl rfl)
abbrev cX7_qKind : ByteArray := prog_25_method_142_code
def yX7_qKind : MethodName := ⟨RX7, "qKind", "()I"⟩
def dkwX7_qKind_3 : List UInt8 := [7, 167, 0, 4, 8, 60, 27, 8, 160, 0, 11, 42, 42, 180, 0, 209, 182, 1, 92, 27, 172]
abbrev dktX7_qKind_3 : List UInt8 := dkwX7_qKind_3 ++ []
def dkwX7_qKind_2 : List UInt8 := [180, 0, 203, 182, 1, 49, 153, 0, 7, 6, 167, 0, 19, 42, 42, 180, 0, 206, 182, 1, 49, 153, 0, 7]
abbrev dktX7_qKind_2 : List UInt8 := dkwX7_qKind_2 ++ dktX7_qKind_3
def dkwX7_qKind_1 : List UInt8 := [153, 0, 7, 4, 167, 0, 49, 42, 42, 180, 0, 200, 182, 1, 49, 153, 0, 7, 5, 167, 0, 34, 42, 42]
abbrev dktX7_qKind_1 : List UInt8 := dkwX7_qKind_1 ++ dktX7_qKind_2
def dkwX7_qKind_0 : List UInt8 := [42, 42, 180, 0, 194, 182, 1, 49, 153, 0, 7, 3, 167, 0, 64, 42, 42, 180, 0, 197, 182, 1, 49]
abbrev dktX7_qKind_0 : List UInt8 := dkwX7_qKind_0 ++ dktX7_qKind_1
theorem dksX7_qKind_0 : cX7_qKind.data.toList.drop 0 = dktX7_qKind_0 := by decide +kernel
theorem dksX7_qKind_1 : cX7_qKind.data.toList.drop 23 = dktX7_qKind_1 := dk_seg dksX7_qKind_0 23 rfl rfl
theorem dksX7_qKind_2 : cX7_qKind.data.toList.drop 47 = dktX7_qKind_2 := dk_seg dksX7_qKind_1 24 rfl rfl
theorem dksX7_qKind_3 : cX7_qKind.data.toList.drop 71 = dktX7_qKind_3 := dk_seg dksX7_qKind_2 24 rfl rfl
theorem dX7_qKind_0 : decode cX7_qKind 0 = .ok (.aload_n 0, 1) := dk_42 (dk_at dksX7_qKind_0 0 rfl rfl)
theorem dX7_qKind_1 : decode cX7_qKind 1 = .ok (.aload_n 0, 1) := dk_42 (dk_at dksX7_qKind_0 1 rfl rfl)
theorem dX7_qKind_2 : decode cX7_qKind 2 = .ok (.getfield 194, 3) := dk_180 0 194 (dk_at dksX7_qKind_0 2 rfl rfl)
theorem dX7_qKind_5 : decode cX7_qKind 5 = .ok (.invokevirtual 305, 3) := dk_182 1 49 (dk_at dksX7_qKind_0 5 rfl rfl)
theorem dX7_qKind_8 : decode cX7_qKind 8 = .ok (.ifCond .eq 7, 3) := dk_153 0 7 (dk_at dksX7_qKind_0 8 rfl rfl)
theorem dX7_qKind_11 : decode cX7_qKind 11 = .ok (.iconst 0, 1) := dk_3 (dk_at dksX7_qKind_0 11 rfl rfl)
theorem dX7_qKind_12 : decode cX7_qKind 12 = .ok (.goto 64, 3) := dk_167 0 64 (dk_at dksX7_qKind_0 12 rfl rfl)
theorem dX7_qKind_15 : decode cX7_qKind 15 = .ok (.aload_n 0, 1) := dk_42 (dk_at dksX7_qKind_0 15 rfl rfl)
theorem dX7_qKind_16 : decode cX7_qKind 16 = .ok (.aload_n 0, 1) := dk_42 (dk_at dksX7_qKind_0 16 rfl rfl)
theorem dX7_qKind_17 : decode cX7_qKind 17 = .ok (.getfield 197, 3) := dk_180 0 197 (dk_at dksX7_qKind_0 17 rfl rfl)
theorem dX7_qKind_20 : decode cX7_qKind 20 = .ok (.invokevirtual 305, 3) := dk_182 1 49 (dk_at dksX7_qKind_0 20 rfl rfl)
theorem dX7_qKind_23 : decode cX7_qKind 23 = .ok (.ifCond .eq 7, 3) := dk_153 0 7 (dk_at dksX7_qKind_1 0 rfl rfl)
theorem dX7_qKind_26 : decode cX7_qKind 26 = .ok (.iconst 1, 1) := dk_4 (dk_at dksX7_qKind_1 3 rfl rfl)
theorem dX7_qKind_27 : decode cX7_qKind 27 = .ok (.goto 49, 3) := dk_167 0 49 (dk_at dksX7_qKind_1 4 rfl rfl)
theorem dX7_qKind_30 : decode cX7_qKind 30 = .ok (.aload_n 0, 1) := dk_42 (dk_at dksX7_qKind_1 7 rfl rfl)
theorem dX7_qKind_31 : decode cX7_qKind 31 = .ok (.aload_n 0, 1) := dk_42 (dk_at dksX7_qKind_1 8 rfl rfl)
theorem dX7_qKind_32 : decode cX7_qKind 32 = .ok (.getfield 200, 3) := dk_180 0 200 (dk_at dksX7_qKind_1 9 rfl rfl)
theorem dX7_qKind_35 : decode cX7_qKind 35 = .ok (.invokevirtual 305, 3) := dk_182 1 49 (dk_at dksX7_qKind_1 12 rfl rfl)
theorem dX7_qKind_38 : decode cX7_qKind 38 = .ok (.ifCond .eq 7, 3) := dk_153 0 7 (dk_at dksX7_qKind_1 15 rfl rfl)
theorem dX7_qKind_41 : decode cX7_qKind 41 = .ok (.iconst 2, 1) := dk_5 (dk_at dksX7_qKind_1 18 rfl rfl)
theorem dX7_qKind_42 : decode cX7_qKind 42 = .ok (.goto 34, 3) := dk_167 0 34 (dk_at dksX7_qKind_1 19 rfl rfl)
theorem dX7_qKind_45 : decode cX7_qKind 45 = .ok (.aload_n 0, 1) := dk_42 (dk_at dksX7_qKind_1 22 rfl rfl)
theorem dX7_qKind_46 : decode cX7_qKind 46 = .ok (.aload_n 0, 1) := dk_42 (dk_at dksX7_qKind_1 23 rfl rfl)
theorem dX7_qKind_47 : decode cX7_qKind 47 = .ok (.getfield 203, 3) := dk_180 0 203 (dk_at dksX7_qKind_2 0 rfl rfl)
theorem dX7_qKind_50 : decode cX7_qKind 50 = .ok (.invokevirtual 305, 3) := dk_182 1 49 (dk_at dksX7_qKind_2 3 rfl rfl)
theorem dX7_qKind_53 : decode cX7_qKind 53 = .ok (.ifCond .eq 7, 3) := dk_153 0 7 (dk_at dksX7_qKind_2 6 rfl rfl)
theorem dX7_qKind_56 : decode cX7_qKind 56 = .ok (.iconst 3, 1) := dk_6 (dk_at dksX7_qKind_2 9 rfl rfl)
theorem dX7_qKind_57 : decode cX7_qKind 57 = .ok (.goto 19, 3) := dk_167 0 19 (dk_at dksX7_qKind_2 10 rfl rfl)
theorem dX7_qKind_60 : decode cX7_qKind 60 = .ok (.aload_n 0, 1) := dk_42 (dk_at dksX7_qKind_2 13 rfl rfl)
theorem dX7_qKind_61 : decode cX7_qKind 61 = .ok (.aload_n 0, 1) := dk_42 (dk_at dksX7_qKind_2 14 rfl rfl)
theorem dX7_qKind_62 : decode cX7_qKind 62 = .ok (.getfield 206, 3) := dk_180 0 206 (dk_at dksX7_qKind_2 15 rfl rfl)
theorem dX7_qKind_65 : decode cX7_qKind 65 = .ok (.invokevirtual 305, 3) := dk_182 1 49 (dk_at dksX7_qKind_2 18 rfl rfl)
theorem dX7_qKind_68 : decode cX7_qKind 68 = .ok (.ifCond .eq 7, 3) := dk_153 0 7 (dk_at dksX7_qKind_2 21 rfl rfl)
theorem dX7_qKind_71 : decode cX7_qKind 71 = .ok (.iconst 4, 1) := dk_7 (dk_at dksX7_qKind_3 0 rfl rfl)
theorem dX7_qKind_72 : decode cX7_qKind 72 = .ok (.goto 4, 3) := dk_167 0 4 (dk_at dksX7_qKind_3 1 rfl rfl)
theorem dX7_qKind_75 : decode cX7_qKind 75 = .ok (.iconst 5, 1) := dk_8 (dk_at dksX7_qKind_3 4 rfl rfl)
theorem dX7_qKind_76 : decode cX7_qKind 76 = .ok (.istore_n 1, 1) := dk_60 (dk_at dksX7_qKind_3 5 rfl rfl)
theorem dX7_qKind_77 : decode cX7_qKind 77 = .ok (.iload_n 1, 1) := dk_27 (dk_at dksX7_qKind_3 6 rfl rfl)
theorem dX7_qKind_78 : decode cX7_qKind 78 = .ok (.iconst 5, 1) := dk_8 (dk_at dksX7_qKind_3 7 rfl rfl)
theorem dX7_qKind_79 : decode cX7_qKind 79 = .ok (.if_icmp .ne 11, 3) := dk_160 0 11 (dk_at dksX7_qKind_3 8 rfl rfl)
theorem dX7_qKind_82 : decode cX7_qKind 82 = .ok (.aload_n 0, 1) := dk_42 (dk_at dksX7_qKind_3 11 rfl rfl)
theorem dX7_qKind_83 : decode cX7_qKind 83 = .ok (.aload_n 0, 1) := dk_42 (dk_at dksX7_qKind_3 12 rfl rfl)
theorem dX7_qKind_84 : decode cX7_qKind 84 = .ok (.getfield 209, 3) := dk_180 0 209 (dk_at dksX7_qKind_3 13 rfl rfl)
theorem dX7_qKind_87 : decode cX7_qKind 87 = .ok (.invokevirtual 348, 3) := dk_182 1 92 (dk_at dksX7_qKind_3 16 rfl rfl)
theorem dX7_qKind_90 : decode cX7_qKind 90 = .ok (.iload_n 1, 1) := dk_27 (dk_at dksX7_qKind_3 19 rfl rfl)
theorem dX7_qKind_91 : decode cX7_qKind 91 = .ok (.ireturn, 1) := dk_172 (dk_at dksX7_qKind_3 20 rfl rfl)
abbrev cX7_qTest : ByteArray := prog_25_method_133_code
def yX7_qTest : MethodName := ⟨RX7, "qTest", "()V"⟩
def dkwX7_qTest_5 : List UInt8 := [180, 1, 126, 158, 0, 10, 42, 182, 2, 173, 167, 255, 238, 177]
abbrev dktX7_qTest_5 : List UInt8 := dkwX7_qTest_5 ++ []
def dkwX7_qTest_4 : List UInt8 := [42, 182, 2, 215, 153, 0, 7, 4, 167, 0, 4, 3, 60, 167, 255, 151, 42, 180, 1, 22, 154, 0, 17, 42]
abbrev dktX7_qTest_4 : List UInt8 := dkwX7_qTest_4 ++ dktX7_qTest_5
def dkwX7_qTest_3 : List UInt8 := [180, 0, 212, 182, 1, 92, 167, 255, 182, 42, 182, 2, 209, 42, 182, 2, 212, 42, 180, 1, 22, 154, 0, 14]
abbrev dktX7_qTest_3 : List UInt8 := dkwX7_qTest_3 ++ dktX7_qTest_4
def dkwX7_qTest_2 : List UInt8 := [42, 180, 0, 212, 182, 1, 45, 153, 0, 24, 42, 16, 12, 42, 180, 1, 28, 182, 2, 185, 42, 42]
abbrev dktX7_qTest_2 : List UInt8 := dkwX7_qTest_2 ++ dktX7_qTest_3
def dkwX7_qTest_1 : List UInt8 := [42, 16, 25, 42, 180, 1, 28, 182, 2, 185, 42, 89, 180, 1, 28, 4, 96, 181, 1, 28, 167, 255, 214, 42]
abbrev dktX7_qTest_1 : List UInt8 := dkwX7_qTest_1 ++ dktX7_qTest_2
def dkwX7_qTest_0 : List UInt8 := [4, 60, 27, 153, 0, 107, 42, 180, 1, 22, 154, 0, 100, 42, 182, 1, 34, 61, 28, 16, 91, 160, 0, 26]
abbrev dktX7_qTest_0 : List UInt8 := dkwX7_qTest_0 ++ dktX7_qTest_1
theorem dksX7_qTest_0 : cX7_qTest.data.toList.drop 0 = dktX7_qTest_0 := by decide +kernel
theorem dksX7_qTest_1 : cX7_qTest.data.toList.drop 24 = dktX7_qTest_1 := dk_seg dksX7_qTest_0 24 rfl rfl
theorem dksX7_qTest_2 : cX7_qTest.data.toList.drop 48 = dktX7_qTest_2 := dk_seg dksX7_qTest_1 24 rfl rfl
theorem dksX7_qTest_3 : cX7_qTest.data.toList.drop 70 = dktX7_qTest_3 := dk_seg dksX7_qTest_2 22 rfl rfl
theorem dksX7_qTest_4 : cX7_qTest.data.toList.drop 94 = dktX7_qTest_4 := dk_seg dksX7_qTest_3 24 rfl rfl
theorem dksX7_qTest_5 : cX7_qTest.data.toList.drop 118 = dktX7_qTest_5 := dk_seg dksX7_qTest_4 24 rfl rfl
theorem dX7_qTest_0 : decode cX7_qTest 0 = .ok (.iconst 1, 1) := dk_4 (dk_at dksX7_qTest_0 0 rfl rfl)
theorem dX7_qTest_1 : decode cX7_qTest 1 = .ok (.istore_n 1, 1) := dk_60 (dk_at dksX7_qTest_0 1 rfl rfl)
theorem dX7_qTest_2 : decode cX7_qTest 2 = .ok (.iload_n 1, 1) := dk_27 (dk_at dksX7_qTest_0 2 rfl rfl)
theorem dX7_qTest_3 : decode cX7_qTest 3 = .ok (.ifCond .eq 107, 3) := dk_153 0 107 (dk_at dksX7_qTest_0 3 rfl rfl)
theorem dX7_qTest_6 : decode cX7_qTest 6 = .ok (.aload_n 0, 1) := dk_42 (dk_at dksX7_qTest_0 6 rfl rfl)
theorem dX7_qTest_7 : decode cX7_qTest 7 = .ok (.getfield 278, 3) := dk_180 1 22 (dk_at dksX7_qTest_0 7 rfl rfl)
theorem dX7_qTest_10 : decode cX7_qTest 10 = .ok (.ifCond .ne 100, 3) := dk_154 0 100 (dk_at dksX7_qTest_0 10 rfl rfl)
theorem dX7_qTest_13 : decode cX7_qTest 13 = .ok (.aload_n 0, 1) := dk_42 (dk_at dksX7_qTest_0 13 rfl rfl)
theorem dX7_qTest_14 : decode cX7_qTest 14 = .ok (.invokevirtual 290, 3) := dk_182 1 34 (dk_at dksX7_qTest_0 14 rfl rfl)
theorem dX7_qTest_17 : decode cX7_qTest 17 = .ok (.istore_n 2, 1) := dk_61 (dk_at dksX7_qTest_0 17 rfl rfl)
theorem dX7_qTest_18 : decode cX7_qTest 18 = .ok (.iload_n 2, 1) := dk_28 (dk_at dksX7_qTest_0 18 rfl rfl)
theorem dX7_qTest_19 : decode cX7_qTest 19 = .ok (.bipush 91, 2) := dk_16 91 (dk_at dksX7_qTest_0 19 rfl rfl)
theorem dX7_qTest_21 : decode cX7_qTest 21 = .ok (.if_icmp .ne 26, 3) := dk_160 0 26 (dk_at dksX7_qTest_0 21 rfl rfl)
theorem dX7_qTest_24 : decode cX7_qTest 24 = .ok (.aload_n 0, 1) := dk_42 (dk_at dksX7_qTest_1 0 rfl rfl)
theorem dX7_qTest_25 : decode cX7_qTest 25 = .ok (.bipush 25, 2) := dk_16 25 (dk_at dksX7_qTest_1 1 rfl rfl)
theorem dX7_qTest_27 : decode cX7_qTest 27 = .ok (.aload_n 0, 1) := dk_42 (dk_at dksX7_qTest_1 3 rfl rfl)
theorem dX7_qTest_28 : decode cX7_qTest 28 = .ok (.getfield 284, 3) := dk_180 1 28 (dk_at dksX7_qTest_1 4 rfl rfl)
theorem dX7_qTest_31 : decode cX7_qTest 31 = .ok (.invokevirtual 697, 3) := dk_182 2 185 (dk_at dksX7_qTest_1 7 rfl rfl)
theorem dX7_qTest_34 : decode cX7_qTest 34 = .ok (.aload_n 0, 1) := dk_42 (dk_at dksX7_qTest_1 10 rfl rfl)
theorem dX7_qTest_35 : decode cX7_qTest 35 = .ok (.dup, 1) := dk_89 (dk_at dksX7_qTest_1 11 rfl rfl)
theorem dX7_qTest_36 : decode cX7_qTest 36 = .ok (.getfield 284, 3) := dk_180 1 28 (dk_at dksX7_qTest_1 12 rfl rfl)
theorem dX7_qTest_39 : decode cX7_qTest 39 = .ok (.iconst 1, 1) := dk_4 (dk_at dksX7_qTest_1 15 rfl rfl)
theorem dX7_qTest_40 : decode cX7_qTest 40 = .ok (.iadd, 1) := dk_96 (dk_at dksX7_qTest_1 16 rfl rfl)
theorem dX7_qTest_41 : decode cX7_qTest 41 = .ok (.putfield 284, 3) := dk_181 1 28 (dk_at dksX7_qTest_1 17 rfl rfl)
theorem dX7_qTest_44 : decode cX7_qTest 44 = .ok (.goto (-42), 3) := dk_167 255 214 (dk_at dksX7_qTest_1 20 rfl rfl)
theorem dX7_qTest_47 : decode cX7_qTest 47 = .ok (.aload_n 0, 1) := dk_42 (dk_at dksX7_qTest_1 23 rfl rfl)
theorem dX7_qTest_48 : decode cX7_qTest 48 = .ok (.aload_n 0, 1) := dk_42 (dk_at dksX7_qTest_2 0 rfl rfl)
theorem dX7_qTest_49 : decode cX7_qTest 49 = .ok (.getfield 212, 3) := dk_180 0 212 (dk_at dksX7_qTest_2 1 rfl rfl)
theorem dX7_qTest_52 : decode cX7_qTest 52 = .ok (.invokevirtual 301, 3) := dk_182 1 45 (dk_at dksX7_qTest_2 4 rfl rfl)
theorem dX7_qTest_55 : decode cX7_qTest 55 = .ok (.ifCond .eq 24, 3) := dk_153 0 24 (dk_at dksX7_qTest_2 7 rfl rfl)
theorem dX7_qTest_58 : decode cX7_qTest 58 = .ok (.aload_n 0, 1) := dk_42 (dk_at dksX7_qTest_2 10 rfl rfl)
theorem dX7_qTest_59 : decode cX7_qTest 59 = .ok (.bipush 12, 2) := dk_16 12 (dk_at dksX7_qTest_2 11 rfl rfl)
theorem dX7_qTest_61 : decode cX7_qTest 61 = .ok (.aload_n 0, 1) := dk_42 (dk_at dksX7_qTest_2 13 rfl rfl)
theorem dX7_qTest_62 : decode cX7_qTest 62 = .ok (.getfield 284, 3) := dk_180 1 28 (dk_at dksX7_qTest_2 14 rfl rfl)
theorem dX7_qTest_65 : decode cX7_qTest 65 = .ok (.invokevirtual 697, 3) := dk_182 2 185 (dk_at dksX7_qTest_2 17 rfl rfl)
theorem dX7_qTest_68 : decode cX7_qTest 68 = .ok (.aload_n 0, 1) := dk_42 (dk_at dksX7_qTest_2 20 rfl rfl)
theorem dX7_qTest_69 : decode cX7_qTest 69 = .ok (.aload_n 0, 1) := dk_42 (dk_at dksX7_qTest_2 21 rfl rfl)
theorem dX7_qTest_70 : decode cX7_qTest 70 = .ok (.getfield 212, 3) := dk_180 0 212 (dk_at dksX7_qTest_3 0 rfl rfl)
theorem dX7_qTest_73 : decode cX7_qTest 73 = .ok (.invokevirtual 348, 3) := dk_182 1 92 (dk_at dksX7_qTest_3 3 rfl rfl)
theorem dX7_qTest_76 : decode cX7_qTest 76 = .ok (.goto (-74), 3) := dk_167 255 182 (dk_at dksX7_qTest_3 6 rfl rfl)
theorem dX7_qTest_79 : decode cX7_qTest 79 = .ok (.aload_n 0, 1) := dk_42 (dk_at dksX7_qTest_3 9 rfl rfl)
theorem dX7_qTest_80 : decode cX7_qTest 80 = .ok (.invokevirtual 721, 3) := dk_182 2 209 (dk_at dksX7_qTest_3 10 rfl rfl)
theorem dX7_qTest_83 : decode cX7_qTest 83 = .ok (.aload_n 0, 1) := dk_42 (dk_at dksX7_qTest_3 13 rfl rfl)
theorem dX7_qTest_84 : decode cX7_qTest 84 = .ok (.invokevirtual 724, 3) := dk_182 2 212 (dk_at dksX7_qTest_3 14 rfl rfl)
theorem dX7_qTest_87 : decode cX7_qTest 87 = .ok (.aload_n 0, 1) := dk_42 (dk_at dksX7_qTest_3 17 rfl rfl)
theorem dX7_qTest_88 : decode cX7_qTest 88 = .ok (.getfield 278, 3) := dk_180 1 22 (dk_at dksX7_qTest_3 18 rfl rfl)
theorem dX7_qTest_91 : decode cX7_qTest 91 = .ok (.ifCond .ne 14, 3) := dk_154 0 14 (dk_at dksX7_qTest_3 21 rfl rfl)
theorem dX7_qTest_94 : decode cX7_qTest 94 = .ok (.aload_n 0, 1) := dk_42 (dk_at dksX7_qTest_4 0 rfl rfl)
theorem dX7_qTest_95 : decode cX7_qTest 95 = .ok (.invokevirtual 727, 3) := dk_182 2 215 (dk_at dksX7_qTest_4 1 rfl rfl)
theorem dX7_qTest_98 : decode cX7_qTest 98 = .ok (.ifCond .eq 7, 3) := dk_153 0 7 (dk_at dksX7_qTest_4 4 rfl rfl)
theorem dX7_qTest_101 : decode cX7_qTest 101 = .ok (.iconst 1, 1) := dk_4 (dk_at dksX7_qTest_4 7 rfl rfl)
theorem dX7_qTest_102 : decode cX7_qTest 102 = .ok (.goto 4, 3) := dk_167 0 4 (dk_at dksX7_qTest_4 8 rfl rfl)
theorem dX7_qTest_105 : decode cX7_qTest 105 = .ok (.iconst 0, 1) := dk_3 (dk_at dksX7_qTest_4 11 rfl rfl)
theorem dX7_qTest_106 : decode cX7_qTest 106 = .ok (.istore_n 1, 1) := dk_60 (dk_at dksX7_qTest_4 12 rfl rfl)
theorem dX7_qTest_107 : decode cX7_qTest 107 = .ok (.goto (-105), 3) := dk_167 255 151 (dk_at dksX7_qTest_4 13 rfl rfl)
theorem dX7_qTest_110 : decode cX7_qTest 110 = .ok (.aload_n 0, 1) := dk_42 (dk_at dksX7_qTest_4 16 rfl rfl)
theorem dX7_qTest_111 : decode cX7_qTest 111 = .ok (.getfield 278, 3) := dk_180 1 22 (dk_at dksX7_qTest_4 17 rfl rfl)
theorem dX7_qTest_114 : decode cX7_qTest 114 = .ok (.ifCond .ne 17, 3) := dk_154 0 17 (dk_at dksX7_qTest_4 20 rfl rfl)
theorem dX7_qTest_117 : decode cX7_qTest 117 = .ok (.aload_n 0, 1) := dk_42 (dk_at dksX7_qTest_4 23 rfl rfl)
theorem dX7_qTest_118 : decode cX7_qTest 118 = .ok (.getfield 382, 3) := dk_180 1 126 (dk_at dksX7_qTest_5 0 rfl rfl)
theorem dX7_qTest_121 : decode cX7_qTest 121 = .ok (.ifCond .le 10, 3) := dk_158 0 10 (dk_at dksX7_qTest_5 3 rfl rfl)
theorem dX7_qTest_124 : decode cX7_qTest 124 = .ok (.aload_n 0, 1) := dk_42 (dk_at dksX7_qTest_5 6 rfl rfl)
theorem dX7_qTest_125 : decode cX7_qTest 125 = .ok (.invokevirtual 685, 3) := dk_182 2 173 (dk_at dksX7_qTest_5 7 rfl rfl)
theorem dX7_qTest_128 : decode cX7_qTest 128 = .ok (.goto (-18), 3) := dk_167 255 238 (dk_at dksX7_qTest_5 10 rfl rfl)
theorem dX7_qTest_131 : decode cX7_qTest 131 = .ok (.return_, 1) := dk_177 (dk_at dksX7_qTest_5 13 rfl rfl)
abbrev cX7_qFact : ByteArray := prog_25_method_130_code
def yX7_qFact : MethodName := ⟨RX7, "qFact", "()V"⟩
def dkwX7_qFact_4 : List UInt8 := [160, 0, 8, 16, 8, 167, 0, 5, 16, 9, 182, 2, 167, 177]
abbrev dktX7_qFact_4 : List UInt8 := dkwX7_qFact_4 ++ []
def dkwX7_qFact_3 : List UInt8 := [181, 1, 28, 42, 182, 1, 135, 42, 27, 16, 60, 160, 0, 8, 16, 7, 167, 0, 16, 27, 16, 62]
abbrev dktX7_qFact_3 : List UInt8 := dkwX7_qFact_3 ++ dktX7_qFact_4
def dkwX7_qFact_2 : List UInt8 := [27, 16, 61, 159, 0, 13, 42, 4, 42, 180, 1, 28, 182, 1, 52, 177, 42, 89, 180, 1, 28, 4, 96]
abbrev dktX7_qFact_2 : List UInt8 := dkwX7_qFact_2 ++ dktX7_qFact_3
def dkwX7_qFact_1 : List UInt8 := [180, 1, 22, 153, 0, 4, 177, 42, 182, 1, 34, 60, 27, 16, 60, 159, 0, 25, 27, 16, 62, 159, 0, 19]
abbrev dktX7_qFact_1 : List UInt8 := dkwX7_qFact_1 ++ dktX7_qFact_2
def dkwX7_qFact_0 : List UInt8 := [42, 42, 180, 0, 221, 182, 1, 49, 153, 0, 10, 42, 16, 13, 182, 2, 167, 177, 42, 182, 1, 135, 42]
abbrev dktX7_qFact_0 : List UInt8 := dkwX7_qFact_0 ++ dktX7_qFact_1
theorem dksX7_qFact_0 : cX7_qFact.data.toList.drop 0 = dktX7_qFact_0 := by decide +kernel
theorem dksX7_qFact_1 : cX7_qFact.data.toList.drop 23 = dktX7_qFact_1 := dk_seg dksX7_qFact_0 23 rfl rfl
theorem dksX7_qFact_2 : cX7_qFact.data.toList.drop 47 = dktX7_qFact_2 := dk_seg dksX7_qFact_1 24 rfl rfl
theorem dksX7_qFact_3 : cX7_qFact.data.toList.drop 70 = dktX7_qFact_3 := dk_seg dksX7_qFact_2 23 rfl rfl
theorem dksX7_qFact_4 : cX7_qFact.data.toList.drop 92 = dktX7_qFact_4 := dk_seg dksX7_qFact_3 22 rfl rfl
theorem dX7_qFact_0 : decode cX7_qFact 0 = .ok (.aload_n 0, 1) := dk_42 (dk_at dksX7_qFact_0 0 rfl rfl)
theorem dX7_qFact_1 : decode cX7_qFact 1 = .ok (.aload_n 0, 1) := dk_42 (dk_at dksX7_qFact_0 1 rfl rfl)
theorem dX7_qFact_2 : decode cX7_qFact 2 = .ok (.getfield 221, 3) := dk_180 0 221 (dk_at dksX7_qFact_0 2 rfl rfl)
theorem dX7_qFact_5 : decode cX7_qFact 5 = .ok (.invokevirtual 305, 3) := dk_182 1 49 (dk_at dksX7_qFact_0 5 rfl rfl)
theorem dX7_qFact_8 : decode cX7_qFact 8 = .ok (.ifCond .eq 10, 3) := dk_153 0 10 (dk_at dksX7_qFact_0 8 rfl rfl)
theorem dX7_qFact_11 : decode cX7_qFact 11 = .ok (.aload_n 0, 1) := dk_42 (dk_at dksX7_qFact_0 11 rfl rfl)
theorem dX7_qFact_12 : decode cX7_qFact 12 = .ok (.bipush 13, 2) := dk_16 13 (dk_at dksX7_qFact_0 12 rfl rfl)
theorem dX7_qFact_14 : decode cX7_qFact 14 = .ok (.invokevirtual 679, 3) := dk_182 2 167 (dk_at dksX7_qFact_0 14 rfl rfl)
theorem dX7_qFact_17 : decode cX7_qFact 17 = .ok (.return_, 1) := dk_177 (dk_at dksX7_qFact_0 17 rfl rfl)
theorem dX7_qFact_18 : decode cX7_qFact 18 = .ok (.aload_n 0, 1) := dk_42 (dk_at dksX7_qFact_0 18 rfl rfl)
theorem dX7_qFact_19 : decode cX7_qFact 19 = .ok (.invokevirtual 391, 3) := dk_182 1 135 (dk_at dksX7_qFact_0 19 rfl rfl)
theorem dX7_qFact_22 : decode cX7_qFact 22 = .ok (.aload_n 0, 1) := dk_42 (dk_at dksX7_qFact_0 22 rfl rfl)
theorem dX7_qFact_23 : decode cX7_qFact 23 = .ok (.getfield 278, 3) := dk_180 1 22 (dk_at dksX7_qFact_1 0 rfl rfl)
theorem dX7_qFact_26 : decode cX7_qFact 26 = .ok (.ifCond .eq 4, 3) := dk_153 0 4 (dk_at dksX7_qFact_1 3 rfl rfl)
theorem dX7_qFact_29 : decode cX7_qFact 29 = .ok (.return_, 1) := dk_177 (dk_at dksX7_qFact_1 6 rfl rfl)
theorem dX7_qFact_30 : decode cX7_qFact 30 = .ok (.aload_n 0, 1) := dk_42 (dk_at dksX7_qFact_1 7 rfl rfl)
theorem dX7_qFact_31 : decode cX7_qFact 31 = .ok (.invokevirtual 290, 3) := dk_182 1 34 (dk_at dksX7_qFact_1 8 rfl rfl)
theorem dX7_qFact_34 : decode cX7_qFact 34 = .ok (.istore_n 1, 1) := dk_60 (dk_at dksX7_qFact_1 11 rfl rfl)
theorem dX7_qFact_35 : decode cX7_qFact 35 = .ok (.iload_n 1, 1) := dk_27 (dk_at dksX7_qFact_1 12 rfl rfl)
theorem dX7_qFact_36 : decode cX7_qFact 36 = .ok (.bipush 60, 2) := dk_16 60 (dk_at dksX7_qFact_1 13 rfl rfl)
theorem dX7_qFact_38 : decode cX7_qFact 38 = .ok (.if_icmp .eq 25, 3) := dk_159 0 25 (dk_at dksX7_qFact_1 15 rfl rfl)
theorem dX7_qFact_41 : decode cX7_qFact 41 = .ok (.iload_n 1, 1) := dk_27 (dk_at dksX7_qFact_1 18 rfl rfl)
theorem dX7_qFact_42 : decode cX7_qFact 42 = .ok (.bipush 62, 2) := dk_16 62 (dk_at dksX7_qFact_1 19 rfl rfl)
theorem dX7_qFact_44 : decode cX7_qFact 44 = .ok (.if_icmp .eq 19, 3) := dk_159 0 19 (dk_at dksX7_qFact_1 21 rfl rfl)
theorem dX7_qFact_47 : decode cX7_qFact 47 = .ok (.iload_n 1, 1) := dk_27 (dk_at dksX7_qFact_2 0 rfl rfl)
theorem dX7_qFact_48 : decode cX7_qFact 48 = .ok (.bipush 61, 2) := dk_16 61 (dk_at dksX7_qFact_2 1 rfl rfl)
theorem dX7_qFact_50 : decode cX7_qFact 50 = .ok (.if_icmp .eq 13, 3) := dk_159 0 13 (dk_at dksX7_qFact_2 3 rfl rfl)
theorem dX7_qFact_53 : decode cX7_qFact 53 = .ok (.aload_n 0, 1) := dk_42 (dk_at dksX7_qFact_2 6 rfl rfl)
theorem dX7_qFact_54 : decode cX7_qFact 54 = .ok (.iconst 1, 1) := dk_4 (dk_at dksX7_qFact_2 7 rfl rfl)
theorem dX7_qFact_55 : decode cX7_qFact 55 = .ok (.aload_n 0, 1) := dk_42 (dk_at dksX7_qFact_2 8 rfl rfl)
theorem dX7_qFact_56 : decode cX7_qFact 56 = .ok (.getfield 284, 3) := dk_180 1 28 (dk_at dksX7_qFact_2 9 rfl rfl)
theorem dX7_qFact_59 : decode cX7_qFact 59 = .ok (.invokevirtual 308, 3) := dk_182 1 52 (dk_at dksX7_qFact_2 12 rfl rfl)
theorem dX7_qFact_62 : decode cX7_qFact 62 = .ok (.return_, 1) := dk_177 (dk_at dksX7_qFact_2 15 rfl rfl)
theorem dX7_qFact_63 : decode cX7_qFact 63 = .ok (.aload_n 0, 1) := dk_42 (dk_at dksX7_qFact_2 16 rfl rfl)
theorem dX7_qFact_64 : decode cX7_qFact 64 = .ok (.dup, 1) := dk_89 (dk_at dksX7_qFact_2 17 rfl rfl)
theorem dX7_qFact_65 : decode cX7_qFact 65 = .ok (.getfield 284, 3) := dk_180 1 28 (dk_at dksX7_qFact_2 18 rfl rfl)
theorem dX7_qFact_68 : decode cX7_qFact 68 = .ok (.iconst 1, 1) := dk_4 (dk_at dksX7_qFact_2 21 rfl rfl)
theorem dX7_qFact_69 : decode cX7_qFact 69 = .ok (.iadd, 1) := dk_96 (dk_at dksX7_qFact_2 22 rfl rfl)
theorem dX7_qFact_70 : decode cX7_qFact 70 = .ok (.putfield 284, 3) := dk_181 1 28 (dk_at dksX7_qFact_3 0 rfl rfl)
theorem dX7_qFact_73 : decode cX7_qFact 73 = .ok (.aload_n 0, 1) := dk_42 (dk_at dksX7_qFact_3 3 rfl rfl)
theorem dX7_qFact_74 : decode cX7_qFact 74 = .ok (.invokevirtual 391, 3) := dk_182 1 135 (dk_at dksX7_qFact_3 4 rfl rfl)
theorem dX7_qFact_77 : decode cX7_qFact 77 = .ok (.aload_n 0, 1) := dk_42 (dk_at dksX7_qFact_3 7 rfl rfl)
theorem dX7_qFact_78 : decode cX7_qFact 78 = .ok (.iload_n 1, 1) := dk_27 (dk_at dksX7_qFact_3 8 rfl rfl)
theorem dX7_qFact_79 : decode cX7_qFact 79 = .ok (.bipush 60, 2) := dk_16 60 (dk_at dksX7_qFact_3 9 rfl rfl)
theorem dX7_qFact_81 : decode cX7_qFact 81 = .ok (.if_icmp .ne 8, 3) := dk_160 0 8 (dk_at dksX7_qFact_3 11 rfl rfl)
theorem dX7_qFact_84 : decode cX7_qFact 84 = .ok (.bipush 7, 2) := dk_16 7 (dk_at dksX7_qFact_3 14 rfl rfl)
theorem dX7_qFact_86 : decode cX7_qFact 86 = .ok (.goto 16, 3) := dk_167 0 16 (dk_at dksX7_qFact_3 16 rfl rfl)
theorem dX7_qFact_89 : decode cX7_qFact 89 = .ok (.iload_n 1, 1) := dk_27 (dk_at dksX7_qFact_3 19 rfl rfl)
theorem dX7_qFact_90 : decode cX7_qFact 90 = .ok (.bipush 62, 2) := dk_16 62 (dk_at dksX7_qFact_3 20 rfl rfl)
theorem dX7_qFact_92 : decode cX7_qFact 92 = .ok (.if_icmp .ne 8, 3) := dk_160 0 8 (dk_at dksX7_qFact_4 0 rfl rfl)
theorem dX7_qFact_95 : decode cX7_qFact 95 = .ok (.bipush 8, 2) := dk_16 8 (dk_at dksX7_qFact_4 3 rfl rfl)
theorem dX7_qFact_97 : decode cX7_qFact 97 = .ok (.goto 5, 3) := dk_167 0 5 (dk_at dksX7_qFact_4 5 rfl rfl)
theorem dX7_qFact_100 : decode cX7_qFact 100 = .ok (.bipush 9, 2) := dk_16 9 (dk_at dksX7_qFact_4 8 rfl rfl)
theorem dX7_qFact_102 : decode cX7_qFact 102 = .ok (.invokevirtual 679, 3) := dk_182 2 167 (dk_at dksX7_qFact_4 10 rfl rfl)
theorem dX7_qFact_105 : decode cX7_qFact 105 = .ok (.return_, 1) := dk_177 (dk_at dksX7_qFact_4 13 rfl rfl)
abbrev cX7_qDropsNots : ByteArray := prog_25_method_132_code
def yX7_qDropsNots : MethodName := ⟨RX7, "qDropsNots", "()V"⟩
def dkwX7_qDropsNots_1 : List UInt8 := [181, 1, 129, 42, 182, 2, 173, 167, 255, 226, 177]
abbrev dktX7_qDropsNots_1 : List UInt8 := dkwX7_qDropsNots_1 ++ []
def dkwX7_qDropsNots_0 : List UInt8 := [42, 180, 1, 22, 154, 0, 29, 42, 16, 12, 182, 2, 200, 153, 0, 20, 42, 89, 180, 1, 129, 4, 100]
abbrev dktX7_qDropsNots_0 : List UInt8 := dkwX7_qDropsNots_0 ++ dktX7_qDropsNots_1
theorem dksX7_qDropsNots_0 : cX7_qDropsNots.data.toList.drop 0 = dktX7_qDropsNots_0 := by decide +kernel
theorem dksX7_qDropsNots_1 : cX7_qDropsNots.data.toList.drop 23 = dktX7_qDropsNots_1 := dk_seg dksX7_qDropsNots_0 23 rfl rfl
theorem dX7_qDropsNots_0 : decode cX7_qDropsNots 0 = .ok (.aload_n 0, 1) := dk_42 (dk_at dksX7_qDropsNots_0 0 rfl rfl)
theorem dX7_qDropsNots_1 : decode cX7_qDropsNots 1 = .ok (.getfield 278, 3) := dk_180 1 22 (dk_at dksX7_qDropsNots_0 1 rfl rfl)
theorem dX7_qDropsNots_4 : decode cX7_qDropsNots 4 = .ok (.ifCond .ne 29, 3) := dk_154 0 29 (dk_at dksX7_qDropsNots_0 4 rfl rfl)
theorem dX7_qDropsNots_7 : decode cX7_qDropsNots 7 = .ok (.aload_n 0, 1) := dk_42 (dk_at dksX7_qDropsNots_0 7 rfl rfl)
theorem dX7_qDropsNots_8 : decode cX7_qDropsNots 8 = .ok (.bipush 12, 2) := dk_16 12 (dk_at dksX7_qDropsNots_0 8 rfl rfl)
theorem dX7_qDropsNots_10 : decode cX7_qDropsNots 10 = .ok (.invokevirtual 712, 3) := dk_182 2 200 (dk_at dksX7_qDropsNots_0 10 rfl rfl)
theorem dX7_qDropsNots_13 : decode cX7_qDropsNots 13 = .ok (.ifCond .eq 20, 3) := dk_153 0 20 (dk_at dksX7_qDropsNots_0 13 rfl rfl)
theorem dX7_qDropsNots_16 : decode cX7_qDropsNots 16 = .ok (.aload_n 0, 1) := dk_42 (dk_at dksX7_qDropsNots_0 16 rfl rfl)
theorem dX7_qDropsNots_17 : decode cX7_qDropsNots 17 = .ok (.dup, 1) := dk_89 (dk_at dksX7_qDropsNots_0 17 rfl rfl)
theorem dX7_qDropsNots_18 : decode cX7_qDropsNots 18 = .ok (.getfield 385, 3) := dk_180 1 129 (dk_at dksX7_qDropsNots_0 18 rfl rfl)
theorem dX7_qDropsNots_21 : decode cX7_qDropsNots 21 = .ok (.iconst 1, 1) := dk_4 (dk_at dksX7_qDropsNots_0 21 rfl rfl)
theorem dX7_qDropsNots_22 : decode cX7_qDropsNots 22 = .ok (.isub, 1) := dk_100 (dk_at dksX7_qDropsNots_0 22 rfl rfl)
theorem dX7_qDropsNots_23 : decode cX7_qDropsNots 23 = .ok (.putfield 385, 3) := dk_181 1 129 (dk_at dksX7_qDropsNots_1 0 rfl rfl)
theorem dX7_qDropsNots_26 : decode cX7_qDropsNots 26 = .ok (.aload_n 0, 1) := dk_42 (dk_at dksX7_qDropsNots_1 3 rfl rfl)
theorem dX7_qDropsNots_27 : decode cX7_qDropsNots 27 = .ok (.invokevirtual 685, 3) := dk_182 2 173 (dk_at dksX7_qDropsNots_1 4 rfl rfl)
theorem dX7_qDropsNots_30 : decode cX7_qDropsNots 30 = .ok (.goto (-30), 3) := dk_167 255 226 (dk_at dksX7_qDropsNots_1 7 rfl rfl)
theorem dX7_qDropsNots_33 : decode cX7_qDropsNots 33 = .ok (.return_, 1) := dk_177 (dk_at dksX7_qDropsNots_1 10 rfl rfl)
abbrev cX7_qGoesOnTest : ByteArray := prog_25_method_134_code
def yX7_qGoesOnTest : MethodName := ⟨RX7, "qGoesOnTest", "()Z"⟩
def dkwX7_qGoesOnTest_8 : List UInt8 := [180, 1, 22, 154, 0, 19, 42, 182, 2, 218, 153, 0, 12, 42, 4, 42, 180, 1, 28, 182, 1, 52, 3, 172]
abbrev dktX7_qGoesOnTest_8 : List UInt8 := dkwX7_qGoesOnTest_8 ++ []
def dkwX7_qGoesOnTest_7 : List UInt8 := [180, 1, 10, 42, 180, 1, 126, 16, 11, 79, 42, 89, 180, 1, 126, 4, 96, 181, 1, 126, 4, 172, 42]
abbrev dktX7_qGoesOnTest_7 : List UInt8 := dkwX7_qGoesOnTest_7 ++ dktX7_qGoesOnTest_8
def dkwX7_qGoesOnTest_6 : List UInt8 := [182, 2, 200, 154, 0, 12, 42, 16, 11, 182, 2, 200, 153, 0, 10, 42, 182, 2, 173, 167, 255, 234, 42]
abbrev dktX7_qGoesOnTest_6 : List UInt8 := dkwX7_qGoesOnTest_6 ++ dktX7_qGoesOnTest_7
def dkwX7_qGoesOnTest_5 : List UInt8 := [180, 1, 126, 4, 96, 181, 1, 126, 4, 172, 42, 42, 180, 0, 218, 182, 1, 49, 153, 0, 51, 42, 16, 10]
abbrev dktX7_qGoesOnTest_5 : List UInt8 := dkwX7_qGoesOnTest_5 ++ dktX7_qGoesOnTest_6
def dkwX7_qGoesOnTest_4 : List UInt8 := [153, 0, 10, 42, 182, 2, 173, 167, 255, 243, 42, 180, 1, 10, 42, 180, 1, 126, 16, 10, 79, 42, 89]
abbrev dktX7_qGoesOnTest_4 : List UInt8 := dkwX7_qGoesOnTest_4 ++ dktX7_qGoesOnTest_5
def dkwX7_qGoesOnTest_3 : List UInt8 := [182, 2, 212, 167, 255, 183, 42, 42, 180, 0, 215, 182, 1, 49, 153, 0, 42, 42, 16, 10, 182, 2, 200]
abbrev dktX7_qGoesOnTest_3 : List UInt8 := dkwX7_qGoesOnTest_3 ++ dktX7_qGoesOnTest_4
def dkwX7_qGoesOnTest_2 : List UInt8 := [167, 255, 243, 42, 89, 180, 1, 126, 4, 100, 181, 1, 126, 42, 89, 180, 1, 129, 4, 100, 181, 1, 129, 42]
abbrev dktX7_qGoesOnTest_2 : List UInt8 := dkwX7_qGoesOnTest_2 ++ dktX7_qGoesOnTest_3
def dkwX7_qGoesOnTest_1 : List UInt8 := [89, 180, 1, 28, 4, 96, 181, 1, 28, 42, 16, 25, 182, 2, 200, 154, 0, 10, 42, 182, 2, 173]
abbrev dktX7_qGoesOnTest_1 : List UInt8 := dkwX7_qGoesOnTest_1 ++ dktX7_qGoesOnTest_2
def dkwX7_qGoesOnTest_0 : List UInt8 := [42, 180, 1, 22, 154, 0, 72, 42, 182, 1, 34, 16, 93, 160, 0, 63, 42, 182, 2, 218, 153, 0, 56, 42]
abbrev dktX7_qGoesOnTest_0 : List UInt8 := dkwX7_qGoesOnTest_0 ++ dktX7_qGoesOnTest_1
theorem dksX7_qGoesOnTest_0 : cX7_qGoesOnTest.data.toList.drop 0 = dktX7_qGoesOnTest_0 := by decide +kernel
theorem dksX7_qGoesOnTest_1 : cX7_qGoesOnTest.data.toList.drop 24 = dktX7_qGoesOnTest_1 := dk_seg dksX7_qGoesOnTest_0 24 rfl rfl
theorem dksX7_qGoesOnTest_2 : cX7_qGoesOnTest.data.toList.drop 46 = dktX7_qGoesOnTest_2 := dk_seg dksX7_qGoesOnTest_1 22 rfl rfl
theorem dksX7_qGoesOnTest_3 : cX7_qGoesOnTest.data.toList.drop 70 = dktX7_qGoesOnTest_3 := dk_seg dksX7_qGoesOnTest_2 24 rfl rfl
theorem dksX7_qGoesOnTest_4 : cX7_qGoesOnTest.data.toList.drop 93 = dktX7_qGoesOnTest_4 := dk_seg dksX7_qGoesOnTest_3 23 rfl rfl
theorem dksX7_qGoesOnTest_5 : cX7_qGoesOnTest.data.toList.drop 116 = dktX7_qGoesOnTest_5 := dk_seg dksX7_qGoesOnTest_4 23 rfl rfl
theorem dksX7_qGoesOnTest_6 : cX7_qGoesOnTest.data.toList.drop 140 = dktX7_qGoesOnTest_6 := dk_seg dksX7_qGoesOnTest_5 24 rfl rfl
theorem dksX7_qGoesOnTest_7 : cX7_qGoesOnTest.data.toList.drop 163 = dktX7_qGoesOnTest_7 := dk_seg dksX7_qGoesOnTest_6 23 rfl rfl
theorem dksX7_qGoesOnTest_8 : cX7_qGoesOnTest.data.toList.drop 186 = dktX7_qGoesOnTest_8 := dk_seg dksX7_qGoesOnTest_7 23 rfl rfl
theorem dX7_qGoesOnTest_0 : decode cX7_qGoesOnTest 0 = .ok (.aload_n 0, 1) := dk_42 (dk_at dksX7_qGoesOnTest_0 0 rfl rfl)
theorem dX7_qGoesOnTest_1 : decode cX7_qGoesOnTest 1 = .ok (.getfield 278, 3) := dk_180 1 22 (dk_at dksX7_qGoesOnTest_0 1 rfl rfl)
theorem dX7_qGoesOnTest_4 : decode cX7_qGoesOnTest 4 = .ok (.ifCond .ne 72, 3) := dk_154 0 72 (dk_at dksX7_qGoesOnTest_0 4 rfl rfl)
theorem dX7_qGoesOnTest_7 : decode cX7_qGoesOnTest 7 = .ok (.aload_n 0, 1) := dk_42 (dk_at dksX7_qGoesOnTest_0 7 rfl rfl)
theorem dX7_qGoesOnTest_8 : decode cX7_qGoesOnTest 8 = .ok (.invokevirtual 290, 3) := dk_182 1 34 (dk_at dksX7_qGoesOnTest_0 8 rfl rfl)
theorem dX7_qGoesOnTest_11 : decode cX7_qGoesOnTest 11 = .ok (.bipush 93, 2) := dk_16 93 (dk_at dksX7_qGoesOnTest_0 11 rfl rfl)
theorem dX7_qGoesOnTest_13 : decode cX7_qGoesOnTest 13 = .ok (.if_icmp .ne 63, 3) := dk_160 0 63 (dk_at dksX7_qGoesOnTest_0 13 rfl rfl)
theorem dX7_qGoesOnTest_16 : decode cX7_qGoesOnTest 16 = .ok (.aload_n 0, 1) := dk_42 (dk_at dksX7_qGoesOnTest_0 16 rfl rfl)
theorem dX7_qGoesOnTest_17 : decode cX7_qGoesOnTest 17 = .ok (.invokevirtual 730, 3) := dk_182 2 218 (dk_at dksX7_qGoesOnTest_0 17 rfl rfl)
theorem dX7_qGoesOnTest_20 : decode cX7_qGoesOnTest 20 = .ok (.ifCond .eq 56, 3) := dk_153 0 56 (dk_at dksX7_qGoesOnTest_0 20 rfl rfl)
theorem dX7_qGoesOnTest_23 : decode cX7_qGoesOnTest 23 = .ok (.aload_n 0, 1) := dk_42 (dk_at dksX7_qGoesOnTest_0 23 rfl rfl)
theorem dX7_qGoesOnTest_24 : decode cX7_qGoesOnTest 24 = .ok (.dup, 1) := dk_89 (dk_at dksX7_qGoesOnTest_1 0 rfl rfl)
theorem dX7_qGoesOnTest_25 : decode cX7_qGoesOnTest 25 = .ok (.getfield 284, 3) := dk_180 1 28 (dk_at dksX7_qGoesOnTest_1 1 rfl rfl)
theorem dX7_qGoesOnTest_28 : decode cX7_qGoesOnTest 28 = .ok (.iconst 1, 1) := dk_4 (dk_at dksX7_qGoesOnTest_1 4 rfl rfl)
theorem dX7_qGoesOnTest_29 : decode cX7_qGoesOnTest 29 = .ok (.iadd, 1) := dk_96 (dk_at dksX7_qGoesOnTest_1 5 rfl rfl)
theorem dX7_qGoesOnTest_30 : decode cX7_qGoesOnTest 30 = .ok (.putfield 284, 3) := dk_181 1 28 (dk_at dksX7_qGoesOnTest_1 6 rfl rfl)
theorem dX7_qGoesOnTest_33 : decode cX7_qGoesOnTest 33 = .ok (.aload_n 0, 1) := dk_42 (dk_at dksX7_qGoesOnTest_1 9 rfl rfl)
theorem dX7_qGoesOnTest_34 : decode cX7_qGoesOnTest 34 = .ok (.bipush 25, 2) := dk_16 25 (dk_at dksX7_qGoesOnTest_1 10 rfl rfl)
theorem dX7_qGoesOnTest_36 : decode cX7_qGoesOnTest 36 = .ok (.invokevirtual 712, 3) := dk_182 2 200 (dk_at dksX7_qGoesOnTest_1 12 rfl rfl)
theorem dX7_qGoesOnTest_39 : decode cX7_qGoesOnTest 39 = .ok (.ifCond .ne 10, 3) := dk_154 0 10 (dk_at dksX7_qGoesOnTest_1 15 rfl rfl)
theorem dX7_qGoesOnTest_42 : decode cX7_qGoesOnTest 42 = .ok (.aload_n 0, 1) := dk_42 (dk_at dksX7_qGoesOnTest_1 18 rfl rfl)
theorem dX7_qGoesOnTest_43 : decode cX7_qGoesOnTest 43 = .ok (.invokevirtual 685, 3) := dk_182 2 173 (dk_at dksX7_qGoesOnTest_1 19 rfl rfl)
theorem dX7_qGoesOnTest_46 : decode cX7_qGoesOnTest 46 = .ok (.goto (-13), 3) := dk_167 255 243 (dk_at dksX7_qGoesOnTest_2 0 rfl rfl)
theorem dX7_qGoesOnTest_49 : decode cX7_qGoesOnTest 49 = .ok (.aload_n 0, 1) := dk_42 (dk_at dksX7_qGoesOnTest_2 3 rfl rfl)
theorem dX7_qGoesOnTest_50 : decode cX7_qGoesOnTest 50 = .ok (.dup, 1) := dk_89 (dk_at dksX7_qGoesOnTest_2 4 rfl rfl)
theorem dX7_qGoesOnTest_51 : decode cX7_qGoesOnTest 51 = .ok (.getfield 382, 3) := dk_180 1 126 (dk_at dksX7_qGoesOnTest_2 5 rfl rfl)
theorem dX7_qGoesOnTest_54 : decode cX7_qGoesOnTest 54 = .ok (.iconst 1, 1) := dk_4 (dk_at dksX7_qGoesOnTest_2 8 rfl rfl)
theorem dX7_qGoesOnTest_55 : decode cX7_qGoesOnTest 55 = .ok (.isub, 1) := dk_100 (dk_at dksX7_qGoesOnTest_2 9 rfl rfl)
theorem dX7_qGoesOnTest_56 : decode cX7_qGoesOnTest 56 = .ok (.putfield 382, 3) := dk_181 1 126 (dk_at dksX7_qGoesOnTest_2 10 rfl rfl)
theorem dX7_qGoesOnTest_59 : decode cX7_qGoesOnTest 59 = .ok (.aload_n 0, 1) := dk_42 (dk_at dksX7_qGoesOnTest_2 13 rfl rfl)
theorem dX7_qGoesOnTest_60 : decode cX7_qGoesOnTest 60 = .ok (.dup, 1) := dk_89 (dk_at dksX7_qGoesOnTest_2 14 rfl rfl)
theorem dX7_qGoesOnTest_61 : decode cX7_qGoesOnTest 61 = .ok (.getfield 385, 3) := dk_180 1 129 (dk_at dksX7_qGoesOnTest_2 15 rfl rfl)
theorem dX7_qGoesOnTest_64 : decode cX7_qGoesOnTest 64 = .ok (.iconst 1, 1) := dk_4 (dk_at dksX7_qGoesOnTest_2 18 rfl rfl)
theorem dX7_qGoesOnTest_65 : decode cX7_qGoesOnTest 65 = .ok (.isub, 1) := dk_100 (dk_at dksX7_qGoesOnTest_2 19 rfl rfl)
theorem dX7_qGoesOnTest_66 : decode cX7_qGoesOnTest 66 = .ok (.putfield 385, 3) := dk_181 1 129 (dk_at dksX7_qGoesOnTest_2 20 rfl rfl)
theorem dX7_qGoesOnTest_69 : decode cX7_qGoesOnTest 69 = .ok (.aload_n 0, 1) := dk_42 (dk_at dksX7_qGoesOnTest_2 23 rfl rfl)
theorem dX7_qGoesOnTest_70 : decode cX7_qGoesOnTest 70 = .ok (.invokevirtual 724, 3) := dk_182 2 212 (dk_at dksX7_qGoesOnTest_3 0 rfl rfl)
theorem dX7_qGoesOnTest_73 : decode cX7_qGoesOnTest 73 = .ok (.goto (-73), 3) := dk_167 255 183 (dk_at dksX7_qGoesOnTest_3 3 rfl rfl)
theorem dX7_qGoesOnTest_76 : decode cX7_qGoesOnTest 76 = .ok (.aload_n 0, 1) := dk_42 (dk_at dksX7_qGoesOnTest_3 6 rfl rfl)
theorem dX7_qGoesOnTest_77 : decode cX7_qGoesOnTest 77 = .ok (.aload_n 0, 1) := dk_42 (dk_at dksX7_qGoesOnTest_3 7 rfl rfl)
theorem dX7_qGoesOnTest_78 : decode cX7_qGoesOnTest 78 = .ok (.getfield 215, 3) := dk_180 0 215 (dk_at dksX7_qGoesOnTest_3 8 rfl rfl)
theorem dX7_qGoesOnTest_81 : decode cX7_qGoesOnTest 81 = .ok (.invokevirtual 305, 3) := dk_182 1 49 (dk_at dksX7_qGoesOnTest_3 11 rfl rfl)
theorem dX7_qGoesOnTest_84 : decode cX7_qGoesOnTest 84 = .ok (.ifCond .eq 42, 3) := dk_153 0 42 (dk_at dksX7_qGoesOnTest_3 14 rfl rfl)
theorem dX7_qGoesOnTest_87 : decode cX7_qGoesOnTest 87 = .ok (.aload_n 0, 1) := dk_42 (dk_at dksX7_qGoesOnTest_3 17 rfl rfl)
theorem dX7_qGoesOnTest_88 : decode cX7_qGoesOnTest 88 = .ok (.bipush 10, 2) := dk_16 10 (dk_at dksX7_qGoesOnTest_3 18 rfl rfl)
theorem dX7_qGoesOnTest_90 : decode cX7_qGoesOnTest 90 = .ok (.invokevirtual 712, 3) := dk_182 2 200 (dk_at dksX7_qGoesOnTest_3 20 rfl rfl)
theorem dX7_qGoesOnTest_93 : decode cX7_qGoesOnTest 93 = .ok (.ifCond .eq 10, 3) := dk_153 0 10 (dk_at dksX7_qGoesOnTest_4 0 rfl rfl)
theorem dX7_qGoesOnTest_96 : decode cX7_qGoesOnTest 96 = .ok (.aload_n 0, 1) := dk_42 (dk_at dksX7_qGoesOnTest_4 3 rfl rfl)
theorem dX7_qGoesOnTest_97 : decode cX7_qGoesOnTest 97 = .ok (.invokevirtual 685, 3) := dk_182 2 173 (dk_at dksX7_qGoesOnTest_4 4 rfl rfl)
theorem dX7_qGoesOnTest_100 : decode cX7_qGoesOnTest 100 = .ok (.goto (-13), 3) := dk_167 255 243 (dk_at dksX7_qGoesOnTest_4 7 rfl rfl)
theorem dX7_qGoesOnTest_103 : decode cX7_qGoesOnTest 103 = .ok (.aload_n 0, 1) := dk_42 (dk_at dksX7_qGoesOnTest_4 10 rfl rfl)
theorem dX7_qGoesOnTest_104 : decode cX7_qGoesOnTest 104 = .ok (.getfield 266, 3) := dk_180 1 10 (dk_at dksX7_qGoesOnTest_4 11 rfl rfl)
theorem dX7_qGoesOnTest_107 : decode cX7_qGoesOnTest 107 = .ok (.aload_n 0, 1) := dk_42 (dk_at dksX7_qGoesOnTest_4 14 rfl rfl)
theorem dX7_qGoesOnTest_108 : decode cX7_qGoesOnTest 108 = .ok (.getfield 382, 3) := dk_180 1 126 (dk_at dksX7_qGoesOnTest_4 15 rfl rfl)
theorem dX7_qGoesOnTest_111 : decode cX7_qGoesOnTest 111 = .ok (.bipush 10, 2) := dk_16 10 (dk_at dksX7_qGoesOnTest_4 18 rfl rfl)
theorem dX7_qGoesOnTest_113 : decode cX7_qGoesOnTest 113 = .ok (.iastore, 1) := dk_79 (dk_at dksX7_qGoesOnTest_4 20 rfl rfl)
theorem dX7_qGoesOnTest_114 : decode cX7_qGoesOnTest 114 = .ok (.aload_n 0, 1) := dk_42 (dk_at dksX7_qGoesOnTest_4 21 rfl rfl)
theorem dX7_qGoesOnTest_115 : decode cX7_qGoesOnTest 115 = .ok (.dup, 1) := dk_89 (dk_at dksX7_qGoesOnTest_4 22 rfl rfl)
theorem dX7_qGoesOnTest_116 : decode cX7_qGoesOnTest 116 = .ok (.getfield 382, 3) := dk_180 1 126 (dk_at dksX7_qGoesOnTest_5 0 rfl rfl)
theorem dX7_qGoesOnTest_119 : decode cX7_qGoesOnTest 119 = .ok (.iconst 1, 1) := dk_4 (dk_at dksX7_qGoesOnTest_5 3 rfl rfl)
theorem dX7_qGoesOnTest_120 : decode cX7_qGoesOnTest 120 = .ok (.iadd, 1) := dk_96 (dk_at dksX7_qGoesOnTest_5 4 rfl rfl)
theorem dX7_qGoesOnTest_121 : decode cX7_qGoesOnTest 121 = .ok (.putfield 382, 3) := dk_181 1 126 (dk_at dksX7_qGoesOnTest_5 5 rfl rfl)
theorem dX7_qGoesOnTest_124 : decode cX7_qGoesOnTest 124 = .ok (.iconst 1, 1) := dk_4 (dk_at dksX7_qGoesOnTest_5 8 rfl rfl)
theorem dX7_qGoesOnTest_125 : decode cX7_qGoesOnTest 125 = .ok (.ireturn, 1) := dk_172 (dk_at dksX7_qGoesOnTest_5 9 rfl rfl)
theorem dX7_qGoesOnTest_126 : decode cX7_qGoesOnTest 126 = .ok (.aload_n 0, 1) := dk_42 (dk_at dksX7_qGoesOnTest_5 10 rfl rfl)
theorem dX7_qGoesOnTest_127 : decode cX7_qGoesOnTest 127 = .ok (.aload_n 0, 1) := dk_42 (dk_at dksX7_qGoesOnTest_5 11 rfl rfl)
theorem dX7_qGoesOnTest_128 : decode cX7_qGoesOnTest 128 = .ok (.getfield 218, 3) := dk_180 0 218 (dk_at dksX7_qGoesOnTest_5 12 rfl rfl)
theorem dX7_qGoesOnTest_131 : decode cX7_qGoesOnTest 131 = .ok (.invokevirtual 305, 3) := dk_182 1 49 (dk_at dksX7_qGoesOnTest_5 15 rfl rfl)
theorem dX7_qGoesOnTest_134 : decode cX7_qGoesOnTest 134 = .ok (.ifCond .eq 51, 3) := dk_153 0 51 (dk_at dksX7_qGoesOnTest_5 18 rfl rfl)
theorem dX7_qGoesOnTest_137 : decode cX7_qGoesOnTest 137 = .ok (.aload_n 0, 1) := dk_42 (dk_at dksX7_qGoesOnTest_5 21 rfl rfl)
theorem dX7_qGoesOnTest_138 : decode cX7_qGoesOnTest 138 = .ok (.bipush 10, 2) := dk_16 10 (dk_at dksX7_qGoesOnTest_5 22 rfl rfl)
theorem dX7_qGoesOnTest_140 : decode cX7_qGoesOnTest 140 = .ok (.invokevirtual 712, 3) := dk_182 2 200 (dk_at dksX7_qGoesOnTest_6 0 rfl rfl)
theorem dX7_qGoesOnTest_143 : decode cX7_qGoesOnTest 143 = .ok (.ifCond .ne 12, 3) := dk_154 0 12 (dk_at dksX7_qGoesOnTest_6 3 rfl rfl)
theorem dX7_qGoesOnTest_146 : decode cX7_qGoesOnTest 146 = .ok (.aload_n 0, 1) := dk_42 (dk_at dksX7_qGoesOnTest_6 6 rfl rfl)
theorem dX7_qGoesOnTest_147 : decode cX7_qGoesOnTest 147 = .ok (.bipush 11, 2) := dk_16 11 (dk_at dksX7_qGoesOnTest_6 7 rfl rfl)
theorem dX7_qGoesOnTest_149 : decode cX7_qGoesOnTest 149 = .ok (.invokevirtual 712, 3) := dk_182 2 200 (dk_at dksX7_qGoesOnTest_6 9 rfl rfl)
theorem dX7_qGoesOnTest_152 : decode cX7_qGoesOnTest 152 = .ok (.ifCond .eq 10, 3) := dk_153 0 10 (dk_at dksX7_qGoesOnTest_6 12 rfl rfl)
theorem dX7_qGoesOnTest_155 : decode cX7_qGoesOnTest 155 = .ok (.aload_n 0, 1) := dk_42 (dk_at dksX7_qGoesOnTest_6 15 rfl rfl)
theorem dX7_qGoesOnTest_156 : decode cX7_qGoesOnTest 156 = .ok (.invokevirtual 685, 3) := dk_182 2 173 (dk_at dksX7_qGoesOnTest_6 16 rfl rfl)
theorem dX7_qGoesOnTest_159 : decode cX7_qGoesOnTest 159 = .ok (.goto (-22), 3) := dk_167 255 234 (dk_at dksX7_qGoesOnTest_6 19 rfl rfl)
theorem dX7_qGoesOnTest_162 : decode cX7_qGoesOnTest 162 = .ok (.aload_n 0, 1) := dk_42 (dk_at dksX7_qGoesOnTest_6 22 rfl rfl)
theorem dX7_qGoesOnTest_163 : decode cX7_qGoesOnTest 163 = .ok (.getfield 266, 3) := dk_180 1 10 (dk_at dksX7_qGoesOnTest_7 0 rfl rfl)
theorem dX7_qGoesOnTest_166 : decode cX7_qGoesOnTest 166 = .ok (.aload_n 0, 1) := dk_42 (dk_at dksX7_qGoesOnTest_7 3 rfl rfl)
theorem dX7_qGoesOnTest_167 : decode cX7_qGoesOnTest 167 = .ok (.getfield 382, 3) := dk_180 1 126 (dk_at dksX7_qGoesOnTest_7 4 rfl rfl)
theorem dX7_qGoesOnTest_170 : decode cX7_qGoesOnTest 170 = .ok (.bipush 11, 2) := dk_16 11 (dk_at dksX7_qGoesOnTest_7 7 rfl rfl)
theorem dX7_qGoesOnTest_172 : decode cX7_qGoesOnTest 172 = .ok (.iastore, 1) := dk_79 (dk_at dksX7_qGoesOnTest_7 9 rfl rfl)
theorem dX7_qGoesOnTest_173 : decode cX7_qGoesOnTest 173 = .ok (.aload_n 0, 1) := dk_42 (dk_at dksX7_qGoesOnTest_7 10 rfl rfl)
theorem dX7_qGoesOnTest_174 : decode cX7_qGoesOnTest 174 = .ok (.dup, 1) := dk_89 (dk_at dksX7_qGoesOnTest_7 11 rfl rfl)
theorem dX7_qGoesOnTest_175 : decode cX7_qGoesOnTest 175 = .ok (.getfield 382, 3) := dk_180 1 126 (dk_at dksX7_qGoesOnTest_7 12 rfl rfl)
theorem dX7_qGoesOnTest_178 : decode cX7_qGoesOnTest 178 = .ok (.iconst 1, 1) := dk_4 (dk_at dksX7_qGoesOnTest_7 15 rfl rfl)
theorem dX7_qGoesOnTest_179 : decode cX7_qGoesOnTest 179 = .ok (.iadd, 1) := dk_96 (dk_at dksX7_qGoesOnTest_7 16 rfl rfl)
theorem dX7_qGoesOnTest_180 : decode cX7_qGoesOnTest 180 = .ok (.putfield 382, 3) := dk_181 1 126 (dk_at dksX7_qGoesOnTest_7 17 rfl rfl)
theorem dX7_qGoesOnTest_183 : decode cX7_qGoesOnTest 183 = .ok (.iconst 1, 1) := dk_4 (dk_at dksX7_qGoesOnTest_7 20 rfl rfl)
theorem dX7_qGoesOnTest_184 : decode cX7_qGoesOnTest 184 = .ok (.ireturn, 1) := dk_172 (dk_at dksX7_qGoesOnTest_7 21 rfl rfl)
theorem dX7_qGoesOnTest_185 : decode cX7_qGoesOnTest 185 = .ok (.aload_n 0, 1) := dk_42 (dk_at dksX7_qGoesOnTest_7 22 rfl rfl)
theorem dX7_qGoesOnTest_186 : decode cX7_qGoesOnTest 186 = .ok (.getfield 278, 3) := dk_180 1 22 (dk_at dksX7_qGoesOnTest_8 0 rfl rfl)
theorem dX7_qGoesOnTest_189 : decode cX7_qGoesOnTest 189 = .ok (.ifCond .ne 19, 3) := dk_154 0 19 (dk_at dksX7_qGoesOnTest_8 3 rfl rfl)
theorem dX7_qGoesOnTest_192 : decode cX7_qGoesOnTest 192 = .ok (.aload_n 0, 1) := dk_42 (dk_at dksX7_qGoesOnTest_8 6 rfl rfl)
theorem dX7_qGoesOnTest_193 : decode cX7_qGoesOnTest 193 = .ok (.invokevirtual 730, 3) := dk_182 2 218 (dk_at dksX7_qGoesOnTest_8 7 rfl rfl)
theorem dX7_qGoesOnTest_196 : decode cX7_qGoesOnTest 196 = .ok (.ifCond .eq 12, 3) := dk_153 0 12 (dk_at dksX7_qGoesOnTest_8 10 rfl rfl)
theorem dX7_qGoesOnTest_199 : decode cX7_qGoesOnTest 199 = .ok (.aload_n 0, 1) := dk_42 (dk_at dksX7_qGoesOnTest_8 13 rfl rfl)
theorem dX7_qGoesOnTest_200 : decode cX7_qGoesOnTest 200 = .ok (.iconst 1, 1) := dk_4 (dk_at dksX7_qGoesOnTest_8 14 rfl rfl)
theorem dX7_qGoesOnTest_201 : decode cX7_qGoesOnTest 201 = .ok (.aload_n 0, 1) := dk_42 (dk_at dksX7_qGoesOnTest_8 15 rfl rfl)
theorem dX7_qGoesOnTest_202 : decode cX7_qGoesOnTest 202 = .ok (.getfield 284, 3) := dk_180 1 28 (dk_at dksX7_qGoesOnTest_8 16 rfl rfl)
theorem dX7_qGoesOnTest_205 : decode cX7_qGoesOnTest 205 = .ok (.invokevirtual 308, 3) := dk_182 1 52 (dk_at dksX7_qGoesOnTest_8 19 rfl rfl)
theorem dX7_qGoesOnTest_208 : decode cX7_qGoesOnTest 208 = .ok (.iconst 0, 1) := dk_3 (dk_at dksX7_qGoesOnTest_8 22 rfl rfl)
theorem dX7_qGoesOnTest_209 : decode cX7_qGoesOnTest 209 = .ok (.ireturn, 1) := dk_172 (dk_at dksX7_qGoesOnTest_8 23 rfl rfl)
abbrev cX7_qHasSquare : ByteArray := prog_25_method_131_code
def yX7_qHasSquare : MethodName := ⟨RX7, "qHasSquare", "()Z"⟩
def dkwX7_qHasSquare_1 : List UInt8 := [132, 1, 1, 167, 255, 232, 3, 172]
abbrev dktX7_qHasSquare_1 : List UInt8 := dkwX7_qHasSquare_1 ++ []
def dkwX7_qHasSquare_0 : List UInt8 := [3, 60, 27, 42, 180, 1, 126, 162, 0, 22, 42, 180, 1, 10, 27, 46, 16, 25, 160, 0, 5, 4, 172]
abbrev dktX7_qHasSquare_0 : List UInt8 := dkwX7_qHasSquare_0 ++ dktX7_qHasSquare_1
theorem dksX7_qHasSquare_0 : cX7_qHasSquare.data.toList.drop 0 = dktX7_qHasSquare_0 := by decide +kernel
theorem dksX7_qHasSquare_1 : cX7_qHasSquare.data.toList.drop 23 = dktX7_qHasSquare_1 := dk_seg dksX7_qHasSquare_0 23 rfl rfl
theorem dX7_qHasSquare_0 : decode cX7_qHasSquare 0 = .ok (.iconst 0, 1) := dk_3 (dk_at dksX7_qHasSquare_0 0 rfl rfl)
theorem dX7_qHasSquare_1 : decode cX7_qHasSquare 1 = .ok (.istore_n 1, 1) := dk_60 (dk_at dksX7_qHasSquare_0 1 rfl rfl)
theorem dX7_qHasSquare_2 : decode cX7_qHasSquare 2 = .ok (.iload_n 1, 1) := dk_27 (dk_at dksX7_qHasSquare_0 2 rfl rfl)
theorem dX7_qHasSquare_3 : decode cX7_qHasSquare 3 = .ok (.aload_n 0, 1) := dk_42 (dk_at dksX7_qHasSquare_0 3 rfl rfl)
theorem dX7_qHasSquare_4 : decode cX7_qHasSquare 4 = .ok (.getfield 382, 3) := dk_180 1 126 (dk_at dksX7_qHasSquare_0 4 rfl rfl)
theorem dX7_qHasSquare_7 : decode cX7_qHasSquare 7 = .ok (.if_icmp .ge 22, 3) := dk_162 0 22 (dk_at dksX7_qHasSquare_0 7 rfl rfl)
theorem dX7_qHasSquare_10 : decode cX7_qHasSquare 10 = .ok (.aload_n 0, 1) := dk_42 (dk_at dksX7_qHasSquare_0 10 rfl rfl)
theorem dX7_qHasSquare_11 : decode cX7_qHasSquare 11 = .ok (.getfield 266, 3) := dk_180 1 10 (dk_at dksX7_qHasSquare_0 11 rfl rfl)
theorem dX7_qHasSquare_14 : decode cX7_qHasSquare 14 = .ok (.iload_n 1, 1) := dk_27 (dk_at dksX7_qHasSquare_0 14 rfl rfl)
theorem dX7_qHasSquare_15 : decode cX7_qHasSquare 15 = .ok (.iaload, 1) := dk_46 (dk_at dksX7_qHasSquare_0 15 rfl rfl)
theorem dX7_qHasSquare_16 : decode cX7_qHasSquare 16 = .ok (.bipush 25, 2) := dk_16 25 (dk_at dksX7_qHasSquare_0 16 rfl rfl)
theorem dX7_qHasSquare_18 : decode cX7_qHasSquare 18 = .ok (.if_icmp .ne 5, 3) := dk_160 0 5 (dk_at dksX7_qHasSquare_0 18 rfl rfl)
theorem dX7_qHasSquare_21 : decode cX7_qHasSquare 21 = .ok (.iconst 1, 1) := dk_4 (dk_at dksX7_qHasSquare_0 21 rfl rfl)
theorem dX7_qHasSquare_22 : decode cX7_qHasSquare 22 = .ok (.ireturn, 1) := dk_172 (dk_at dksX7_qHasSquare_0 22 rfl rfl)
theorem dX7_qHasSquare_23 : decode cX7_qHasSquare 23 = .ok (.iinc 1 1, 3) := dk_132 1 1 (dk_at dksX7_qHasSquare_1 0 rfl rfl)
theorem dX7_qHasSquare_26 : decode cX7_qHasSquare 26 = .ok (.goto (-24), 3) := dk_167 255 232 (dk_at dksX7_qHasSquare_1 3 rfl rfl)
theorem dX7_qHasSquare_29 : decode cX7_qHasSquare 29 = .ok (.iconst 0, 1) := dk_3 (dk_at dksX7_qHasSquare_1 6 rfl rfl)
theorem dX7_qHasSquare_30 : decode cX7_qHasSquare 30 = .ok (.ireturn, 1) := dk_172 (dk_at dksX7_qHasSquare_1 7 rfl rfl)
abbrev cX7_qTold : ByteArray := prog_25_method_141_code
def yX7_qTold : MethodName := ⟨RX7, "qTold", "(I)J"⟩
def dkwX7_qTold_7 : List UInt8 := [132, 2, 1, 167, 255, 98, 42, 180, 1, 13, 3, 47, 173]
abbrev dktX7_qTold_7 : List UInt8 := dkwX7_qTold_7 ++ []
def dkwX7_qTold_6 : List UInt8 := [10, 42, 180, 1, 13, 42, 180, 2, 21, 4, 100, 47, 101, 80, 167, 0, 8, 42, 29, 182, 2, 32]
abbrev dktX7_qTold_6 : List UInt8 := dkwX7_qTold_6 ++ dktX7_qTold_7
def dkwX7_qTold_5 : List UInt8 := [42, 10, 182, 2, 24, 167, 0, 41, 29, 16, 12, 160, 0, 30, 42, 180, 1, 13, 42, 180, 2, 21, 4, 100]
abbrev dktX7_qTold_5 : List UInt8 := dkwX7_qTold_5 ++ dktX7_qTold_6
def dkwX7_qTold_4 : List UInt8 := [42, 29, 16, 40, 100, 27, 182, 2, 28, 184, 2, 225, 182, 2, 24, 167, 0, 55, 29, 16, 13, 160, 0, 11]
abbrev dktX7_qTold_4 : List UInt8 := dkwX7_qTold_4 ++ dktX7_qTold_5
def dkwX7_qTold_3 : List UInt8 := [180, 2, 21, 4, 100, 47, 27, 182, 2, 233, 184, 2, 225, 80, 167, 0, 80, 29, 16, 40, 161, 0, 22, 42]
abbrev dktX7_qTold_3 : List UInt8 := dkwX7_qTold_3 ++ dktX7_qTold_4
def dkwX7_qTold_2 : List UInt8 := [161, 0, 40, 42, 180, 1, 13, 42, 180, 2, 21, 4, 100, 42, 29, 16, 60, 100, 42, 180, 1, 13, 42]
abbrev dktX7_qTold_2 : List UInt8 := dkwX7_qTold_2 ++ dktX7_qTold_3
def dkwX7_qTold_1 : List UInt8 := [17, 3, 232, 161, 0, 16, 42, 29, 17, 3, 232, 100, 133, 182, 2, 24, 167, 0, 123, 29, 16, 60]
abbrev dktX7_qTold_1 : List UInt8 := dkwX7_qTold_1 ++ dktX7_qTold_2
def dkwX7_qTold_0 : List UInt8 := [42, 3, 181, 2, 21, 3, 61, 28, 42, 180, 1, 123, 162, 0, 156, 42, 180, 1, 7, 28, 46, 62, 29]
abbrev dktX7_qTold_0 : List UInt8 := dkwX7_qTold_0 ++ dktX7_qTold_1
theorem dksX7_qTold_0 : cX7_qTold.data.toList.drop 0 = dktX7_qTold_0 := by decide +kernel
theorem dksX7_qTold_1 : cX7_qTold.data.toList.drop 23 = dktX7_qTold_1 := dk_seg dksX7_qTold_0 23 rfl rfl
theorem dksX7_qTold_2 : cX7_qTold.data.toList.drop 45 = dktX7_qTold_2 := dk_seg dksX7_qTold_1 22 rfl rfl
theorem dksX7_qTold_3 : cX7_qTold.data.toList.drop 68 = dktX7_qTold_3 := dk_seg dksX7_qTold_2 23 rfl rfl
theorem dksX7_qTold_4 : cX7_qTold.data.toList.drop 92 = dktX7_qTold_4 := dk_seg dksX7_qTold_3 24 rfl rfl
theorem dksX7_qTold_5 : cX7_qTold.data.toList.drop 116 = dktX7_qTold_5 := dk_seg dksX7_qTold_4 24 rfl rfl
theorem dksX7_qTold_6 : cX7_qTold.data.toList.drop 140 = dktX7_qTold_6 := dk_seg dksX7_qTold_5 24 rfl rfl
theorem dksX7_qTold_7 : cX7_qTold.data.toList.drop 162 = dktX7_qTold_7 := dk_seg dksX7_qTold_6 22 rfl rfl
theorem dX7_qTold_0 : decode cX7_qTold 0 = .ok (.aload_n 0, 1) := dk_42 (dk_at dksX7_qTold_0 0 rfl rfl)
theorem dX7_qTold_1 : decode cX7_qTold 1 = .ok (.iconst 0, 1) := dk_3 (dk_at dksX7_qTold_0 1 rfl rfl)
theorem dX7_qTold_2 : decode cX7_qTold 2 = .ok (.putfield 533, 3) := dk_181 2 21 (dk_at dksX7_qTold_0 2 rfl rfl)
theorem dX7_qTold_5 : decode cX7_qTold 5 = .ok (.iconst 0, 1) := dk_3 (dk_at dksX7_qTold_0 5 rfl rfl)
theorem dX7_qTold_6 : decode cX7_qTold 6 = .ok (.istore_n 2, 1) := dk_61 (dk_at dksX7_qTold_0 6 rfl rfl)
theorem dX7_qTold_7 : decode cX7_qTold 7 = .ok (.iload_n 2, 1) := dk_28 (dk_at dksX7_qTold_0 7 rfl rfl)
theorem dX7_qTold_8 : decode cX7_qTold 8 = .ok (.aload_n 0, 1) := dk_42 (dk_at dksX7_qTold_0 8 rfl rfl)
theorem dX7_qTold_9 : decode cX7_qTold 9 = .ok (.getfield 379, 3) := dk_180 1 123 (dk_at dksX7_qTold_0 9 rfl rfl)
theorem dX7_qTold_12 : decode cX7_qTold 12 = .ok (.if_icmp .ge 156, 3) := dk_162 0 156 (dk_at dksX7_qTold_0 12 rfl rfl)
theorem dX7_qTold_15 : decode cX7_qTold 15 = .ok (.aload_n 0, 1) := dk_42 (dk_at dksX7_qTold_0 15 rfl rfl)
theorem dX7_qTold_16 : decode cX7_qTold 16 = .ok (.getfield 263, 3) := dk_180 1 7 (dk_at dksX7_qTold_0 16 rfl rfl)
theorem dX7_qTold_19 : decode cX7_qTold 19 = .ok (.iload_n 2, 1) := dk_28 (dk_at dksX7_qTold_0 19 rfl rfl)
theorem dX7_qTold_20 : decode cX7_qTold 20 = .ok (.iaload, 1) := dk_46 (dk_at dksX7_qTold_0 20 rfl rfl)
theorem dX7_qTold_21 : decode cX7_qTold 21 = .ok (.istore_n 3, 1) := dk_62 (dk_at dksX7_qTold_0 21 rfl rfl)
theorem dX7_qTold_22 : decode cX7_qTold 22 = .ok (.iload_n 3, 1) := dk_29 (dk_at dksX7_qTold_0 22 rfl rfl)
theorem dX7_qTold_23 : decode cX7_qTold 23 = .ok (.sipush 1000, 3) := dk_17 3 232 (dk_at dksX7_qTold_1 0 rfl rfl)
theorem dX7_qTold_26 : decode cX7_qTold 26 = .ok (.if_icmp .lt 16, 3) := dk_161 0 16 (dk_at dksX7_qTold_1 3 rfl rfl)
theorem dX7_qTold_29 : decode cX7_qTold 29 = .ok (.aload_n 0, 1) := dk_42 (dk_at dksX7_qTold_1 6 rfl rfl)
theorem dX7_qTold_30 : decode cX7_qTold 30 = .ok (.iload_n 3, 1) := dk_29 (dk_at dksX7_qTold_1 7 rfl rfl)
theorem dX7_qTold_31 : decode cX7_qTold 31 = .ok (.sipush 1000, 3) := dk_17 3 232 (dk_at dksX7_qTold_1 8 rfl rfl)
theorem dX7_qTold_34 : decode cX7_qTold 34 = .ok (.isub, 1) := dk_100 (dk_at dksX7_qTold_1 11 rfl rfl)
theorem dX7_qTold_35 : decode cX7_qTold 35 = .ok (.i2l, 1) := dk_133 (dk_at dksX7_qTold_1 12 rfl rfl)
theorem dX7_qTold_36 : decode cX7_qTold 36 = .ok (.invokevirtual 536, 3) := dk_182 2 24 (dk_at dksX7_qTold_1 13 rfl rfl)
theorem dX7_qTold_39 : decode cX7_qTold 39 = .ok (.goto 123, 3) := dk_167 0 123 (dk_at dksX7_qTold_1 16 rfl rfl)
theorem dX7_qTold_42 : decode cX7_qTold 42 = .ok (.iload_n 3, 1) := dk_29 (dk_at dksX7_qTold_1 19 rfl rfl)
theorem dX7_qTold_43 : decode cX7_qTold 43 = .ok (.bipush 60, 2) := dk_16 60 (dk_at dksX7_qTold_1 20 rfl rfl)
theorem dX7_qTold_45 : decode cX7_qTold 45 = .ok (.if_icmp .lt 40, 3) := dk_161 0 40 (dk_at dksX7_qTold_2 0 rfl rfl)
theorem dX7_qTold_48 : decode cX7_qTold 48 = .ok (.aload_n 0, 1) := dk_42 (dk_at dksX7_qTold_2 3 rfl rfl)
theorem dX7_qTold_49 : decode cX7_qTold 49 = .ok (.getfield 269, 3) := dk_180 1 13 (dk_at dksX7_qTold_2 4 rfl rfl)
theorem dX7_qTold_52 : decode cX7_qTold 52 = .ok (.aload_n 0, 1) := dk_42 (dk_at dksX7_qTold_2 7 rfl rfl)
theorem dX7_qTold_53 : decode cX7_qTold 53 = .ok (.getfield 533, 3) := dk_180 2 21 (dk_at dksX7_qTold_2 8 rfl rfl)
theorem dX7_qTold_56 : decode cX7_qTold 56 = .ok (.iconst 1, 1) := dk_4 (dk_at dksX7_qTold_2 11 rfl rfl)
theorem dX7_qTold_57 : decode cX7_qTold 57 = .ok (.isub, 1) := dk_100 (dk_at dksX7_qTold_2 12 rfl rfl)
theorem dX7_qTold_58 : decode cX7_qTold 58 = .ok (.aload_n 0, 1) := dk_42 (dk_at dksX7_qTold_2 13 rfl rfl)
theorem dX7_qTold_59 : decode cX7_qTold 59 = .ok (.iload_n 3, 1) := dk_29 (dk_at dksX7_qTold_2 14 rfl rfl)
theorem dX7_qTold_60 : decode cX7_qTold 60 = .ok (.bipush 60, 2) := dk_16 60 (dk_at dksX7_qTold_2 15 rfl rfl)
theorem dX7_qTold_62 : decode cX7_qTold 62 = .ok (.isub, 1) := dk_100 (dk_at dksX7_qTold_2 17 rfl rfl)
theorem dX7_qTold_63 : decode cX7_qTold 63 = .ok (.aload_n 0, 1) := dk_42 (dk_at dksX7_qTold_2 18 rfl rfl)
theorem dX7_qTold_64 : decode cX7_qTold 64 = .ok (.getfield 269, 3) := dk_180 1 13 (dk_at dksX7_qTold_2 19 rfl rfl)
theorem dX7_qTold_67 : decode cX7_qTold 67 = .ok (.aload_n 0, 1) := dk_42 (dk_at dksX7_qTold_2 22 rfl rfl)
theorem dX7_qTold_68 : decode cX7_qTold 68 = .ok (.getfield 533, 3) := dk_180 2 21 (dk_at dksX7_qTold_3 0 rfl rfl)
theorem dX7_qTold_71 : decode cX7_qTold 71 = .ok (.iconst 1, 1) := dk_4 (dk_at dksX7_qTold_3 3 rfl rfl)
theorem dX7_qTold_72 : decode cX7_qTold 72 = .ok (.isub, 1) := dk_100 (dk_at dksX7_qTold_3 4 rfl rfl)
theorem dX7_qTold_73 : decode cX7_qTold 73 = .ok (.laload, 1) := dk_47 (dk_at dksX7_qTold_3 5 rfl rfl)
theorem dX7_qTold_74 : decode cX7_qTold 74 = .ok (.iload_n 1, 1) := dk_27 (dk_at dksX7_qTold_3 6 rfl rfl)
theorem dX7_qTold_75 : decode cX7_qTold 75 = .ok (.invokevirtual 745, 3) := dk_182 2 233 (dk_at dksX7_qTold_3 7 rfl rfl)
theorem dX7_qTold_78 : decode cX7_qTold 78 = .ok (.invokestatic 737, 3) := dk_184 2 225 (dk_at dksX7_qTold_3 10 rfl rfl)
theorem dX7_qTold_81 : decode cX7_qTold 81 = .ok (.lastore, 1) := dk_80 (dk_at dksX7_qTold_3 13 rfl rfl)
theorem dX7_qTold_82 : decode cX7_qTold 82 = .ok (.goto 80, 3) := dk_167 0 80 (dk_at dksX7_qTold_3 14 rfl rfl)
theorem dX7_qTold_85 : decode cX7_qTold 85 = .ok (.iload_n 3, 1) := dk_29 (dk_at dksX7_qTold_3 17 rfl rfl)
theorem dX7_qTold_86 : decode cX7_qTold 86 = .ok (.bipush 40, 2) := dk_16 40 (dk_at dksX7_qTold_3 18 rfl rfl)
theorem dX7_qTold_88 : decode cX7_qTold 88 = .ok (.if_icmp .lt 22, 3) := dk_161 0 22 (dk_at dksX7_qTold_3 20 rfl rfl)
theorem dX7_qTold_91 : decode cX7_qTold 91 = .ok (.aload_n 0, 1) := dk_42 (dk_at dksX7_qTold_3 23 rfl rfl)
theorem dX7_qTold_92 : decode cX7_qTold 92 = .ok (.aload_n 0, 1) := dk_42 (dk_at dksX7_qTold_4 0 rfl rfl)
theorem dX7_qTold_93 : decode cX7_qTold 93 = .ok (.iload_n 3, 1) := dk_29 (dk_at dksX7_qTold_4 1 rfl rfl)
theorem dX7_qTold_94 : decode cX7_qTold 94 = .ok (.bipush 40, 2) := dk_16 40 (dk_at dksX7_qTold_4 2 rfl rfl)
theorem dX7_qTold_96 : decode cX7_qTold 96 = .ok (.isub, 1) := dk_100 (dk_at dksX7_qTold_4 4 rfl rfl)
theorem dX7_qTold_97 : decode cX7_qTold 97 = .ok (.iload_n 1, 1) := dk_27 (dk_at dksX7_qTold_4 5 rfl rfl)
theorem dX7_qTold_98 : decode cX7_qTold 98 = .ok (.invokevirtual 540, 3) := dk_182 2 28 (dk_at dksX7_qTold_4 6 rfl rfl)
theorem dX7_qTold_101 : decode cX7_qTold 101 = .ok (.invokestatic 737, 3) := dk_184 2 225 (dk_at dksX7_qTold_4 9 rfl rfl)
theorem dX7_qTold_104 : decode cX7_qTold 104 = .ok (.invokevirtual 536, 3) := dk_182 2 24 (dk_at dksX7_qTold_4 12 rfl rfl)
theorem dX7_qTold_107 : decode cX7_qTold 107 = .ok (.goto 55, 3) := dk_167 0 55 (dk_at dksX7_qTold_4 15 rfl rfl)
theorem dX7_qTold_110 : decode cX7_qTold 110 = .ok (.iload_n 3, 1) := dk_29 (dk_at dksX7_qTold_4 18 rfl rfl)
theorem dX7_qTold_111 : decode cX7_qTold 111 = .ok (.bipush 13, 2) := dk_16 13 (dk_at dksX7_qTold_4 19 rfl rfl)
theorem dX7_qTold_113 : decode cX7_qTold 113 = .ok (.if_icmp .ne 11, 3) := dk_160 0 11 (dk_at dksX7_qTold_4 21 rfl rfl)
theorem dX7_qTold_116 : decode cX7_qTold 116 = .ok (.aload_n 0, 1) := dk_42 (dk_at dksX7_qTold_5 0 rfl rfl)
theorem dX7_qTold_117 : decode cX7_qTold 117 = .ok (.lconst 1, 1) := dk_10 (dk_at dksX7_qTold_5 1 rfl rfl)
theorem dX7_qTold_118 : decode cX7_qTold 118 = .ok (.invokevirtual 536, 3) := dk_182 2 24 (dk_at dksX7_qTold_5 2 rfl rfl)
theorem dX7_qTold_121 : decode cX7_qTold 121 = .ok (.goto 41, 3) := dk_167 0 41 (dk_at dksX7_qTold_5 5 rfl rfl)
theorem dX7_qTold_124 : decode cX7_qTold 124 = .ok (.iload_n 3, 1) := dk_29 (dk_at dksX7_qTold_5 8 rfl rfl)
theorem dX7_qTold_125 : decode cX7_qTold 125 = .ok (.bipush 12, 2) := dk_16 12 (dk_at dksX7_qTold_5 9 rfl rfl)
theorem dX7_qTold_127 : decode cX7_qTold 127 = .ok (.if_icmp .ne 30, 3) := dk_160 0 30 (dk_at dksX7_qTold_5 11 rfl rfl)
theorem dX7_qTold_130 : decode cX7_qTold 130 = .ok (.aload_n 0, 1) := dk_42 (dk_at dksX7_qTold_5 14 rfl rfl)
theorem dX7_qTold_131 : decode cX7_qTold 131 = .ok (.getfield 269, 3) := dk_180 1 13 (dk_at dksX7_qTold_5 15 rfl rfl)
theorem dX7_qTold_134 : decode cX7_qTold 134 = .ok (.aload_n 0, 1) := dk_42 (dk_at dksX7_qTold_5 18 rfl rfl)
theorem dX7_qTold_135 : decode cX7_qTold 135 = .ok (.getfield 533, 3) := dk_180 2 21 (dk_at dksX7_qTold_5 19 rfl rfl)
theorem dX7_qTold_138 : decode cX7_qTold 138 = .ok (.iconst 1, 1) := dk_4 (dk_at dksX7_qTold_5 22 rfl rfl)
theorem dX7_qTold_139 : decode cX7_qTold 139 = .ok (.isub, 1) := dk_100 (dk_at dksX7_qTold_5 23 rfl rfl)
theorem dX7_qTold_140 : decode cX7_qTold 140 = .ok (.lconst 1, 1) := dk_10 (dk_at dksX7_qTold_6 0 rfl rfl)
theorem dX7_qTold_141 : decode cX7_qTold 141 = .ok (.aload_n 0, 1) := dk_42 (dk_at dksX7_qTold_6 1 rfl rfl)
theorem dX7_qTold_142 : decode cX7_qTold 142 = .ok (.getfield 269, 3) := dk_180 1 13 (dk_at dksX7_qTold_6 2 rfl rfl)
theorem dX7_qTold_145 : decode cX7_qTold 145 = .ok (.aload_n 0, 1) := dk_42 (dk_at dksX7_qTold_6 5 rfl rfl)
theorem dX7_qTold_146 : decode cX7_qTold 146 = .ok (.getfield 533, 3) := dk_180 2 21 (dk_at dksX7_qTold_6 6 rfl rfl)
theorem dX7_qTold_149 : decode cX7_qTold 149 = .ok (.iconst 1, 1) := dk_4 (dk_at dksX7_qTold_6 9 rfl rfl)
theorem dX7_qTold_150 : decode cX7_qTold 150 = .ok (.isub, 1) := dk_100 (dk_at dksX7_qTold_6 10 rfl rfl)
theorem dX7_qTold_151 : decode cX7_qTold 151 = .ok (.laload, 1) := dk_47 (dk_at dksX7_qTold_6 11 rfl rfl)
theorem dX7_qTold_152 : decode cX7_qTold 152 = .ok (.lsub, 1) := dk_101 (dk_at dksX7_qTold_6 12 rfl rfl)
theorem dX7_qTold_153 : decode cX7_qTold 153 = .ok (.lastore, 1) := dk_80 (dk_at dksX7_qTold_6 13 rfl rfl)
theorem dX7_qTold_154 : decode cX7_qTold 154 = .ok (.goto 8, 3) := dk_167 0 8 (dk_at dksX7_qTold_6 14 rfl rfl)
theorem dX7_qTold_157 : decode cX7_qTold 157 = .ok (.aload_n 0, 1) := dk_42 (dk_at dksX7_qTold_6 17 rfl rfl)
theorem dX7_qTold_158 : decode cX7_qTold 158 = .ok (.iload_n 3, 1) := dk_29 (dk_at dksX7_qTold_6 18 rfl rfl)
theorem dX7_qTold_159 : decode cX7_qTold 159 = .ok (.invokevirtual 544, 3) := dk_182 2 32 (dk_at dksX7_qTold_6 19 rfl rfl)
theorem dX7_qTold_162 : decode cX7_qTold 162 = .ok (.iinc 2 1, 3) := dk_132 2 1 (dk_at dksX7_qTold_7 0 rfl rfl)
theorem dX7_qTold_165 : decode cX7_qTold 165 = .ok (.goto (-158), 3) := dk_167 255 98 (dk_at dksX7_qTold_7 3 rfl rfl)
theorem dX7_qTold_168 : decode cX7_qTold 168 = .ok (.aload_n 0, 1) := dk_42 (dk_at dksX7_qTold_7 6 rfl rfl)
theorem dX7_qTold_169 : decode cX7_qTold 169 = .ok (.getfield 269, 3) := dk_180 1 13 (dk_at dksX7_qTold_7 7 rfl rfl)
theorem dX7_qTold_172 : decode cX7_qTold 172 = .ok (.iconst 0, 1) := dk_3 (dk_at dksX7_qTold_7 10 rfl rfl)
theorem dX7_qTold_173 : decode cX7_qTold 173 = .ok (.laload, 1) := dk_47 (dk_at dksX7_qTold_7 11 rfl rfl)
theorem dX7_qTold_174 : decode cX7_qTold 174 = .ok (.lreturn, 1) := dk_173 (dk_at dksX7_qTold_7 12 rfl rfl)
abbrev cX7_qOf : ByteArray := prog_25_method_140_code
def yX7_qOf : MethodName := ⟨RX7, "qOf", "(IJI)J"⟩
def dkwX7_qOf_2 : List UInt8 := [104, 96, 46, 42, 21, 4, 182, 1, 183, 42, 21, 4, 182, 1, 190, 184, 1, 205, 133, 167, 0, 4, 9, 173]
abbrev dktX7_qOf_2 : List UInt8 := dkwX7_qOf_2 ++ []
def dkwX7_qOf_1 : List UInt8 := [153, 0, 46, 42, 180, 0, 139, 16, 18, 6, 32, 136, 104, 96, 46, 42, 180, 0, 139, 16, 19, 6, 32, 136]
abbrev dktX7_qOf_1 : List UInt8 := dkwX7_qOf_1 ++ dktX7_qOf_2
def dkwX7_qOf_0 : List UInt8 := [27, 171, 0, 0, 0, 0, 0, 11, 0, 0, 0, 0, 32, 9, 42, 182, 1, 180, 4, 100, 133, 184, 1, 65]
abbrev dktX7_qOf_0 : List UInt8 := dkwX7_qOf_0 ++ dktX7_qOf_1
theorem dksX7_qOf_0 : cX7_qOf.data.toList.drop 0 = dktX7_qOf_0 := by decide +kernel
theorem dksX7_qOf_1 : cX7_qOf.data.toList.drop 24 = dktX7_qOf_1 := dk_seg dksX7_qOf_0 24 rfl rfl
theorem dksX7_qOf_2 : cX7_qOf.data.toList.drop 48 = dktX7_qOf_2 := dk_seg dksX7_qOf_1 24 rfl rfl
theorem dX7_qOf_0 : decode cX7_qOf 0 = .ok (.iload_n 1, 1) := dk_27 (dk_at dksX7_qOf_0 0 rfl rfl)
theorem dX7_qOf_1 : decode cX7_qOf 1 = .ok (.lookupswitch 11 #[], 11) := by decide +kernel
theorem dX7_qOf_12 : decode cX7_qOf 12 = .ok (.lload_n 2, 1) := dk_32 (dk_at dksX7_qOf_0 12 rfl rfl)
theorem dX7_qOf_13 : decode cX7_qOf 13 = .ok (.lconst 0, 1) := dk_9 (dk_at dksX7_qOf_0 13 rfl rfl)
theorem dX7_qOf_14 : decode cX7_qOf 14 = .ok (.aload_n 0, 1) := dk_42 (dk_at dksX7_qOf_0 14 rfl rfl)
theorem dX7_qOf_15 : decode cX7_qOf 15 = .ok (.invokevirtual 436, 3) := dk_182 1 180 (dk_at dksX7_qOf_0 15 rfl rfl)
theorem dX7_qOf_18 : decode cX7_qOf 18 = .ok (.iconst 1, 1) := dk_4 (dk_at dksX7_qOf_0 18 rfl rfl)
theorem dX7_qOf_19 : decode cX7_qOf 19 = .ok (.isub, 1) := dk_100 (dk_at dksX7_qOf_0 19 rfl rfl)
theorem dX7_qOf_20 : decode cX7_qOf 20 = .ok (.i2l, 1) := dk_133 (dk_at dksX7_qOf_0 20 rfl rfl)
theorem dX7_qOf_21 : decode cX7_qOf 21 = .ok (.invokestatic 321, 3) := dk_184 1 65 (dk_at dksX7_qOf_0 21 rfl rfl)
theorem dX7_qOf_24 : decode cX7_qOf 24 = .ok (.ifCond .eq 46, 3) := dk_153 0 46 (dk_at dksX7_qOf_1 0 rfl rfl)
theorem dX7_qOf_27 : decode cX7_qOf 27 = .ok (.aload_n 0, 1) := dk_42 (dk_at dksX7_qOf_1 3 rfl rfl)
theorem dX7_qOf_28 : decode cX7_qOf 28 = .ok (.getfield 139, 3) := dk_180 0 139 (dk_at dksX7_qOf_1 4 rfl rfl)
theorem dX7_qOf_31 : decode cX7_qOf 31 = .ok (.bipush 18, 2) := dk_16 18 (dk_at dksX7_qOf_1 7 rfl rfl)
theorem dX7_qOf_33 : decode cX7_qOf 33 = .ok (.iconst 3, 1) := dk_6 (dk_at dksX7_qOf_1 9 rfl rfl)
theorem dX7_qOf_34 : decode cX7_qOf 34 = .ok (.lload_n 2, 1) := dk_32 (dk_at dksX7_qOf_1 10 rfl rfl)
theorem dX7_qOf_35 : decode cX7_qOf 35 = .ok (.l2i, 1) := dk_136 (dk_at dksX7_qOf_1 11 rfl rfl)
theorem dX7_qOf_36 : decode cX7_qOf 36 = .ok (.imul, 1) := dk_104 (dk_at dksX7_qOf_1 12 rfl rfl)
theorem dX7_qOf_37 : decode cX7_qOf 37 = .ok (.iadd, 1) := dk_96 (dk_at dksX7_qOf_1 13 rfl rfl)
theorem dX7_qOf_38 : decode cX7_qOf 38 = .ok (.iaload, 1) := dk_46 (dk_at dksX7_qOf_1 14 rfl rfl)
theorem dX7_qOf_39 : decode cX7_qOf 39 = .ok (.aload_n 0, 1) := dk_42 (dk_at dksX7_qOf_1 15 rfl rfl)
theorem dX7_qOf_40 : decode cX7_qOf 40 = .ok (.getfield 139, 3) := dk_180 0 139 (dk_at dksX7_qOf_1 16 rfl rfl)
theorem dX7_qOf_43 : decode cX7_qOf 43 = .ok (.bipush 19, 2) := dk_16 19 (dk_at dksX7_qOf_1 19 rfl rfl)
theorem dX7_qOf_45 : decode cX7_qOf 45 = .ok (.iconst 3, 1) := dk_6 (dk_at dksX7_qOf_1 21 rfl rfl)
theorem dX7_qOf_46 : decode cX7_qOf 46 = .ok (.lload_n 2, 1) := dk_32 (dk_at dksX7_qOf_1 22 rfl rfl)
theorem dX7_qOf_47 : decode cX7_qOf 47 = .ok (.l2i, 1) := dk_136 (dk_at dksX7_qOf_1 23 rfl rfl)
theorem dX7_qOf_48 : decode cX7_qOf 48 = .ok (.imul, 1) := dk_104 (dk_at dksX7_qOf_2 0 rfl rfl)
theorem dX7_qOf_49 : decode cX7_qOf 49 = .ok (.iadd, 1) := dk_96 (dk_at dksX7_qOf_2 1 rfl rfl)
theorem dX7_qOf_50 : decode cX7_qOf 50 = .ok (.iaload, 1) := dk_46 (dk_at dksX7_qOf_2 2 rfl rfl)
theorem dX7_qOf_51 : decode cX7_qOf 51 = .ok (.aload_n 0, 1) := dk_42 (dk_at dksX7_qOf_2 3 rfl rfl)
theorem dX7_qOf_52 : decode cX7_qOf 52 = .ok (.iload 4, 2) := dk_21 4 (dk_at dksX7_qOf_2 4 rfl rfl)
theorem dX7_qOf_54 : decode cX7_qOf 54 = .ok (.invokevirtual 439, 3) := dk_182 1 183 (dk_at dksX7_qOf_2 6 rfl rfl)
theorem dX7_qOf_57 : decode cX7_qOf 57 = .ok (.aload_n 0, 1) := dk_42 (dk_at dksX7_qOf_2 9 rfl rfl)
theorem dX7_qOf_58 : decode cX7_qOf 58 = .ok (.iload 4, 2) := dk_21 4 (dk_at dksX7_qOf_2 10 rfl rfl)
theorem dX7_qOf_60 : decode cX7_qOf 60 = .ok (.invokevirtual 446, 3) := dk_182 1 190 (dk_at dksX7_qOf_2 12 rfl rfl)
theorem dX7_qOf_63 : decode cX7_qOf 63 = .ok (.invokestatic 461, 3) := dk_184 1 205 (dk_at dksX7_qOf_2 15 rfl rfl)
theorem dX7_qOf_66 : decode cX7_qOf 66 = .ok (.i2l, 1) := dk_133 (dk_at dksX7_qOf_2 18 rfl rfl)
theorem dX7_qOf_67 : decode cX7_qOf 67 = .ok (.goto 4, 3) := dk_167 0 4 (dk_at dksX7_qOf_2 19 rfl rfl)
theorem dX7_qOf_70 : decode cX7_qOf 70 = .ok (.lconst 0, 1) := dk_9 (dk_at dksX7_qOf_2 22 rfl rfl)
theorem dX7_qOf_71 : decode cX7_qOf 71 = .ok (.lreturn, 1) := dk_173 (dk_at dksX7_qOf_2 23 rfl rfl)
abbrev cX7_qTakes : ByteArray := prog_25_method_143_code
def yX7_qTakes : MethodName := ⟨RX7, "qTakes", "(IJI)V"⟩
def dkwX7_qTakes_5 : List UInt8 := [42, 180, 2, 237, 148, 156, 0, 8, 42, 32, 181, 2, 237, 42, 3, 181, 2, 242, 177]
abbrev dktX7_qTakes_5 : List UInt8 := dkwX7_qTakes_5 ++ []
def dkwX7_qTakes_4 : List UInt8 := [180, 2, 242, 154, 0, 29, 27, 7, 160, 0, 15, 32, 42, 180, 2, 237, 148, 158, 0, 20, 167, 0, 12, 32]
abbrev dktX7_qTakes_4 : List UInt8 := dkwX7_qTakes_4 ++ dktX7_qTakes_5
def dkwX7_qTakes_3 : List UInt8 := [181, 2, 237, 27, 6, 160, 0, 13, 42, 89, 180, 2, 237, 32, 97, 181, 2, 237, 27, 6, 164, 0, 41, 42]
abbrev dktX7_qTakes_3 : List UInt8 := dkwX7_qTakes_3 ++ dktX7_qTakes_4
def dkwX7_qTakes_2 : List UInt8 := [42, 21, 4, 133, 181, 2, 237, 27, 5, 160, 0, 18, 21, 5, 153, 0, 13, 42, 89, 180, 2, 237, 10, 97]
abbrev dktX7_qTakes_2 : List UInt8 := dkwX7_qTakes_2 ++ dktX7_qTakes_3
def dkwX7_qTakes_1 : List UInt8 := [153, 0, 14, 42, 180, 2, 237, 20, 2, 240, 148, 153, 0, 13, 27, 4, 160, 0, 15, 21, 5, 153, 0, 10]
abbrev dktX7_qTakes_1 : List UInt8 := dkwX7_qTakes_1 ++ dktX7_qTakes_2
def dkwX7_qTakes_0 : List UInt8 := [27, 6, 162, 0, 13, 32, 10, 148, 154, 0, 7, 4, 167, 0, 4, 3, 54, 5, 27, 154, 0, 19, 21, 5]
abbrev dktX7_qTakes_0 : List UInt8 := dkwX7_qTakes_0 ++ dktX7_qTakes_1
theorem dksX7_qTakes_0 : cX7_qTakes.data.toList.drop 0 = dktX7_qTakes_0 := by decide +kernel
theorem dksX7_qTakes_1 : cX7_qTakes.data.toList.drop 24 = dktX7_qTakes_1 := dk_seg dksX7_qTakes_0 24 rfl rfl
theorem dksX7_qTakes_2 : cX7_qTakes.data.toList.drop 48 = dktX7_qTakes_2 := dk_seg dksX7_qTakes_1 24 rfl rfl
theorem dksX7_qTakes_3 : cX7_qTakes.data.toList.drop 72 = dktX7_qTakes_3 := dk_seg dksX7_qTakes_2 24 rfl rfl
theorem dksX7_qTakes_4 : cX7_qTakes.data.toList.drop 96 = dktX7_qTakes_4 := dk_seg dksX7_qTakes_3 24 rfl rfl
theorem dksX7_qTakes_5 : cX7_qTakes.data.toList.drop 120 = dktX7_qTakes_5 := dk_seg dksX7_qTakes_4 24 rfl rfl
theorem dX7_qTakes_0 : decode cX7_qTakes 0 = .ok (.iload_n 1, 1) := dk_27 (dk_at dksX7_qTakes_0 0 rfl rfl)
theorem dX7_qTakes_1 : decode cX7_qTakes 1 = .ok (.iconst 3, 1) := dk_6 (dk_at dksX7_qTakes_0 1 rfl rfl)
theorem dX7_qTakes_2 : decode cX7_qTakes 2 = .ok (.if_icmp .ge 13, 3) := dk_162 0 13 (dk_at dksX7_qTakes_0 2 rfl rfl)
theorem dX7_qTakes_5 : decode cX7_qTakes 5 = .ok (.lload_n 2, 1) := dk_32 (dk_at dksX7_qTakes_0 5 rfl rfl)
theorem dX7_qTakes_6 : decode cX7_qTakes 6 = .ok (.lconst 1, 1) := dk_10 (dk_at dksX7_qTakes_0 6 rfl rfl)
theorem dX7_qTakes_7 : decode cX7_qTakes 7 = .ok (.lcmp, 1) := dk_148 (dk_at dksX7_qTakes_0 7 rfl rfl)
theorem dX7_qTakes_8 : decode cX7_qTakes 8 = .ok (.ifCond .ne 7, 3) := dk_154 0 7 (dk_at dksX7_qTakes_0 8 rfl rfl)
theorem dX7_qTakes_11 : decode cX7_qTakes 11 = .ok (.iconst 1, 1) := dk_4 (dk_at dksX7_qTakes_0 11 rfl rfl)
theorem dX7_qTakes_12 : decode cX7_qTakes 12 = .ok (.goto 4, 3) := dk_167 0 4 (dk_at dksX7_qTakes_0 12 rfl rfl)
theorem dX7_qTakes_15 : decode cX7_qTakes 15 = .ok (.iconst 0, 1) := dk_3 (dk_at dksX7_qTakes_0 15 rfl rfl)
theorem dX7_qTakes_16 : decode cX7_qTakes 16 = .ok (.istore 5, 2) := dk_54 5 (dk_at dksX7_qTakes_0 16 rfl rfl)
theorem dX7_qTakes_18 : decode cX7_qTakes 18 = .ok (.iload_n 1, 1) := dk_27 (dk_at dksX7_qTakes_0 18 rfl rfl)
theorem dX7_qTakes_19 : decode cX7_qTakes 19 = .ok (.ifCond .ne 19, 3) := dk_154 0 19 (dk_at dksX7_qTakes_0 19 rfl rfl)
theorem dX7_qTakes_22 : decode cX7_qTakes 22 = .ok (.iload 5, 2) := dk_21 5 (dk_at dksX7_qTakes_0 22 rfl rfl)
theorem dX7_qTakes_24 : decode cX7_qTakes 24 = .ok (.ifCond .eq 14, 3) := dk_153 0 14 (dk_at dksX7_qTakes_1 0 rfl rfl)
theorem dX7_qTakes_27 : decode cX7_qTakes 27 = .ok (.aload_n 0, 1) := dk_42 (dk_at dksX7_qTakes_1 3 rfl rfl)
theorem dX7_qTakes_28 : decode cX7_qTakes 28 = .ok (.getfield 749, 3) := dk_180 2 237 (dk_at dksX7_qTakes_1 4 rfl rfl)
theorem dX7_qTakes_31 : decode cX7_qTakes 31 = .ok (.ldc2_w 752, 3) := dk_20 2 240 (dk_at dksX7_qTakes_1 7 rfl rfl)
theorem dX7_qTakes_34 : decode cX7_qTakes 34 = .ok (.lcmp, 1) := dk_148 (dk_at dksX7_qTakes_1 10 rfl rfl)
theorem dX7_qTakes_35 : decode cX7_qTakes 35 = .ok (.ifCond .eq 13, 3) := dk_153 0 13 (dk_at dksX7_qTakes_1 11 rfl rfl)
theorem dX7_qTakes_38 : decode cX7_qTakes 38 = .ok (.iload_n 1, 1) := dk_27 (dk_at dksX7_qTakes_1 14 rfl rfl)
theorem dX7_qTakes_39 : decode cX7_qTakes 39 = .ok (.iconst 1, 1) := dk_4 (dk_at dksX7_qTakes_1 15 rfl rfl)
theorem dX7_qTakes_40 : decode cX7_qTakes 40 = .ok (.if_icmp .ne 15, 3) := dk_160 0 15 (dk_at dksX7_qTakes_1 16 rfl rfl)
theorem dX7_qTakes_43 : decode cX7_qTakes 43 = .ok (.iload 5, 2) := dk_21 5 (dk_at dksX7_qTakes_1 19 rfl rfl)
theorem dX7_qTakes_45 : decode cX7_qTakes 45 = .ok (.ifCond .eq 10, 3) := dk_153 0 10 (dk_at dksX7_qTakes_1 21 rfl rfl)
theorem dX7_qTakes_48 : decode cX7_qTakes 48 = .ok (.aload_n 0, 1) := dk_42 (dk_at dksX7_qTakes_2 0 rfl rfl)
theorem dX7_qTakes_49 : decode cX7_qTakes 49 = .ok (.iload 4, 2) := dk_21 4 (dk_at dksX7_qTakes_2 1 rfl rfl)
theorem dX7_qTakes_51 : decode cX7_qTakes 51 = .ok (.i2l, 1) := dk_133 (dk_at dksX7_qTakes_2 3 rfl rfl)
theorem dX7_qTakes_52 : decode cX7_qTakes 52 = .ok (.putfield 749, 3) := dk_181 2 237 (dk_at dksX7_qTakes_2 4 rfl rfl)
theorem dX7_qTakes_55 : decode cX7_qTakes 55 = .ok (.iload_n 1, 1) := dk_27 (dk_at dksX7_qTakes_2 7 rfl rfl)
theorem dX7_qTakes_56 : decode cX7_qTakes 56 = .ok (.iconst 2, 1) := dk_5 (dk_at dksX7_qTakes_2 8 rfl rfl)
theorem dX7_qTakes_57 : decode cX7_qTakes 57 = .ok (.if_icmp .ne 18, 3) := dk_160 0 18 (dk_at dksX7_qTakes_2 9 rfl rfl)
theorem dX7_qTakes_60 : decode cX7_qTakes 60 = .ok (.iload 5, 2) := dk_21 5 (dk_at dksX7_qTakes_2 12 rfl rfl)
theorem dX7_qTakes_62 : decode cX7_qTakes 62 = .ok (.ifCond .eq 13, 3) := dk_153 0 13 (dk_at dksX7_qTakes_2 14 rfl rfl)
theorem dX7_qTakes_65 : decode cX7_qTakes 65 = .ok (.aload_n 0, 1) := dk_42 (dk_at dksX7_qTakes_2 17 rfl rfl)
theorem dX7_qTakes_66 : decode cX7_qTakes 66 = .ok (.dup, 1) := dk_89 (dk_at dksX7_qTakes_2 18 rfl rfl)
theorem dX7_qTakes_67 : decode cX7_qTakes 67 = .ok (.getfield 749, 3) := dk_180 2 237 (dk_at dksX7_qTakes_2 19 rfl rfl)
theorem dX7_qTakes_70 : decode cX7_qTakes 70 = .ok (.lconst 1, 1) := dk_10 (dk_at dksX7_qTakes_2 22 rfl rfl)
theorem dX7_qTakes_71 : decode cX7_qTakes 71 = .ok (.ladd, 1) := dk_97 (dk_at dksX7_qTakes_2 23 rfl rfl)
theorem dX7_qTakes_72 : decode cX7_qTakes 72 = .ok (.putfield 749, 3) := dk_181 2 237 (dk_at dksX7_qTakes_3 0 rfl rfl)
theorem dX7_qTakes_75 : decode cX7_qTakes 75 = .ok (.iload_n 1, 1) := dk_27 (dk_at dksX7_qTakes_3 3 rfl rfl)
theorem dX7_qTakes_76 : decode cX7_qTakes 76 = .ok (.iconst 3, 1) := dk_6 (dk_at dksX7_qTakes_3 4 rfl rfl)
theorem dX7_qTakes_77 : decode cX7_qTakes 77 = .ok (.if_icmp .ne 13, 3) := dk_160 0 13 (dk_at dksX7_qTakes_3 5 rfl rfl)
theorem dX7_qTakes_80 : decode cX7_qTakes 80 = .ok (.aload_n 0, 1) := dk_42 (dk_at dksX7_qTakes_3 8 rfl rfl)
theorem dX7_qTakes_81 : decode cX7_qTakes 81 = .ok (.dup, 1) := dk_89 (dk_at dksX7_qTakes_3 9 rfl rfl)
theorem dX7_qTakes_82 : decode cX7_qTakes 82 = .ok (.getfield 749, 3) := dk_180 2 237 (dk_at dksX7_qTakes_3 10 rfl rfl)
theorem dX7_qTakes_85 : decode cX7_qTakes 85 = .ok (.lload_n 2, 1) := dk_32 (dk_at dksX7_qTakes_3 13 rfl rfl)
theorem dX7_qTakes_86 : decode cX7_qTakes 86 = .ok (.ladd, 1) := dk_97 (dk_at dksX7_qTakes_3 14 rfl rfl)
theorem dX7_qTakes_87 : decode cX7_qTakes 87 = .ok (.putfield 749, 3) := dk_181 2 237 (dk_at dksX7_qTakes_3 15 rfl rfl)
theorem dX7_qTakes_90 : decode cX7_qTakes 90 = .ok (.iload_n 1, 1) := dk_27 (dk_at dksX7_qTakes_3 18 rfl rfl)
theorem dX7_qTakes_91 : decode cX7_qTakes 91 = .ok (.iconst 3, 1) := dk_6 (dk_at dksX7_qTakes_3 19 rfl rfl)
theorem dX7_qTakes_92 : decode cX7_qTakes 92 = .ok (.if_icmp .le 41, 3) := dk_164 0 41 (dk_at dksX7_qTakes_3 20 rfl rfl)
theorem dX7_qTakes_95 : decode cX7_qTakes 95 = .ok (.aload_n 0, 1) := dk_42 (dk_at dksX7_qTakes_3 23 rfl rfl)
theorem dX7_qTakes_96 : decode cX7_qTakes 96 = .ok (.getfield 754, 3) := dk_180 2 242 (dk_at dksX7_qTakes_4 0 rfl rfl)
theorem dX7_qTakes_99 : decode cX7_qTakes 99 = .ok (.ifCond .ne 29, 3) := dk_154 0 29 (dk_at dksX7_qTakes_4 3 rfl rfl)
theorem dX7_qTakes_102 : decode cX7_qTakes 102 = .ok (.iload_n 1, 1) := dk_27 (dk_at dksX7_qTakes_4 6 rfl rfl)
theorem dX7_qTakes_103 : decode cX7_qTakes 103 = .ok (.iconst 4, 1) := dk_7 (dk_at dksX7_qTakes_4 7 rfl rfl)
theorem dX7_qTakes_104 : decode cX7_qTakes 104 = .ok (.if_icmp .ne 15, 3) := dk_160 0 15 (dk_at dksX7_qTakes_4 8 rfl rfl)
theorem dX7_qTakes_107 : decode cX7_qTakes 107 = .ok (.lload_n 2, 1) := dk_32 (dk_at dksX7_qTakes_4 11 rfl rfl)
theorem dX7_qTakes_108 : decode cX7_qTakes 108 = .ok (.aload_n 0, 1) := dk_42 (dk_at dksX7_qTakes_4 12 rfl rfl)
theorem dX7_qTakes_109 : decode cX7_qTakes 109 = .ok (.getfield 749, 3) := dk_180 2 237 (dk_at dksX7_qTakes_4 13 rfl rfl)
theorem dX7_qTakes_112 : decode cX7_qTakes 112 = .ok (.lcmp, 1) := dk_148 (dk_at dksX7_qTakes_4 16 rfl rfl)
theorem dX7_qTakes_113 : decode cX7_qTakes 113 = .ok (.ifCond .le 20, 3) := dk_158 0 20 (dk_at dksX7_qTakes_4 17 rfl rfl)
theorem dX7_qTakes_116 : decode cX7_qTakes 116 = .ok (.goto 12, 3) := dk_167 0 12 (dk_at dksX7_qTakes_4 20 rfl rfl)
theorem dX7_qTakes_119 : decode cX7_qTakes 119 = .ok (.lload_n 2, 1) := dk_32 (dk_at dksX7_qTakes_4 23 rfl rfl)
theorem dX7_qTakes_120 : decode cX7_qTakes 120 = .ok (.aload_n 0, 1) := dk_42 (dk_at dksX7_qTakes_5 0 rfl rfl)
theorem dX7_qTakes_121 : decode cX7_qTakes 121 = .ok (.getfield 749, 3) := dk_180 2 237 (dk_at dksX7_qTakes_5 1 rfl rfl)
theorem dX7_qTakes_124 : decode cX7_qTakes 124 = .ok (.lcmp, 1) := dk_148 (dk_at dksX7_qTakes_5 4 rfl rfl)
theorem dX7_qTakes_125 : decode cX7_qTakes 125 = .ok (.ifCond .ge 8, 3) := dk_156 0 8 (dk_at dksX7_qTakes_5 5 rfl rfl)
theorem dX7_qTakes_128 : decode cX7_qTakes 128 = .ok (.aload_n 0, 1) := dk_42 (dk_at dksX7_qTakes_5 8 rfl rfl)
theorem dX7_qTakes_129 : decode cX7_qTakes 129 = .ok (.lload_n 2, 1) := dk_32 (dk_at dksX7_qTakes_5 9 rfl rfl)
theorem dX7_qTakes_130 : decode cX7_qTakes 130 = .ok (.putfield 749, 3) := dk_181 2 237 (dk_at dksX7_qTakes_5 10 rfl rfl)
theorem dX7_qTakes_133 : decode cX7_qTakes 133 = .ok (.aload_n 0, 1) := dk_42 (dk_at dksX7_qTakes_5 13 rfl rfl)
theorem dX7_qTakes_134 : decode cX7_qTakes 134 = .ok (.iconst 0, 1) := dk_3 (dk_at dksX7_qTakes_5 14 rfl rfl)
theorem dX7_qTakes_135 : decode cX7_qTakes 135 = .ok (.putfield 754, 3) := dk_181 2 242 (dk_at dksX7_qTakes_5 15 rfl rfl)
theorem dX7_qTakes_138 : decode cX7_qTakes 138 = .ok (.return_, 1) := dk_177 (dk_at dksX7_qTakes_5 18 rfl rfl)
abbrev cX7_image : ByteArray := prog_25_method_147_code
def yX7_image : MethodName := ⟨RX7, "image", "()I"⟩
def dkwX7_image_6 : List UInt8 := [180, 1, 16, 42, 180, 3, 3, 184, 3, 9, 182, 3, 6, 42, 180, 3, 3, 172]
abbrev dktX7_image_6 : List UInt8 := dkwX7_image_6 ++ []
def dkwX7_image_5 : List UInt8 := [42, 180, 0, 154, 16, 18, 27, 96, 46, 17, 1, 0, 112, 182, 3, 6, 132, 1, 1, 167, 255, 211, 42, 42]
abbrev dktX7_image_5 : List UInt8 := dkwX7_image_5 ++ dktX7_image_6
def dkwX7_image_4 : List UInt8 := [182, 1, 180, 162, 0, 43, 42, 42, 180, 0, 154, 16, 18, 27, 96, 46, 17, 1, 0, 108, 182, 3, 6, 42]
abbrev dktX7_image_4 : List UInt8 := dkwX7_image_4 ++ dktX7_image_5
def dkwX7_image_3 : List UInt8 := [167, 0, 11, 42, 180, 0, 154, 5, 27, 96, 46, 182, 3, 6, 132, 1, 1, 167, 255, 213, 3, 60, 27, 42]
abbrev dktX7_image_3 : List UInt8 := dkwX7_image_3 ++ dktX7_image_4
def dkwX7_image_2 : List UInt8 := [182, 1, 177, 104, 162, 0, 39, 42, 42, 180, 0, 154, 5, 27, 96, 46, 2, 160, 0, 9, 17, 0, 255]
abbrev dktX7_image_2 : List UInt8 := dkwX7_image_2 ++ dktX7_image_3
def dkwX7_image_1 : List UInt8 := [3, 46, 17, 1, 0, 112, 182, 3, 6, 42, 42, 180, 0, 154, 4, 46, 182, 3, 6, 3, 60, 27, 5, 42]
abbrev dktX7_image_1 : List UInt8 := dkwX7_image_1 ++ dktX7_image_2
def dkwX7_image_0 : List UInt8 := [42, 3, 181, 3, 3, 42, 42, 180, 0, 154, 3, 46, 17, 1, 0, 108, 182, 3, 6, 42, 42, 180, 0, 154]
abbrev dktX7_image_0 : List UInt8 := dkwX7_image_0 ++ dktX7_image_1
theorem dksX7_image_0 : cX7_image.data.toList.drop 0 = dktX7_image_0 := by decide +kernel
theorem dksX7_image_1 : cX7_image.data.toList.drop 24 = dktX7_image_1 := dk_seg dksX7_image_0 24 rfl rfl
theorem dksX7_image_2 : cX7_image.data.toList.drop 48 = dktX7_image_2 := dk_seg dksX7_image_1 24 rfl rfl
theorem dksX7_image_3 : cX7_image.data.toList.drop 71 = dktX7_image_3 := dk_seg dksX7_image_2 23 rfl rfl
theorem dksX7_image_4 : cX7_image.data.toList.drop 95 = dktX7_image_4 := dk_seg dksX7_image_3 24 rfl rfl
theorem dksX7_image_5 : cX7_image.data.toList.drop 119 = dktX7_image_5 := dk_seg dksX7_image_4 24 rfl rfl
theorem dksX7_image_6 : cX7_image.data.toList.drop 143 = dktX7_image_6 := dk_seg dksX7_image_5 24 rfl rfl
theorem dX7_image_0 : decode cX7_image 0 = .ok (.aload_n 0, 1) := dk_42 (dk_at dksX7_image_0 0 rfl rfl)
theorem dX7_image_1 : decode cX7_image 1 = .ok (.iconst 0, 1) := dk_3 (dk_at dksX7_image_0 1 rfl rfl)
theorem dX7_image_2 : decode cX7_image 2 = .ok (.putfield 771, 3) := dk_181 3 3 (dk_at dksX7_image_0 2 rfl rfl)
theorem dX7_image_5 : decode cX7_image 5 = .ok (.aload_n 0, 1) := dk_42 (dk_at dksX7_image_0 5 rfl rfl)
theorem dX7_image_6 : decode cX7_image 6 = .ok (.aload_n 0, 1) := dk_42 (dk_at dksX7_image_0 6 rfl rfl)
theorem dX7_image_7 : decode cX7_image 7 = .ok (.getfield 154, 3) := dk_180 0 154 (dk_at dksX7_image_0 7 rfl rfl)
theorem dX7_image_10 : decode cX7_image 10 = .ok (.iconst 0, 1) := dk_3 (dk_at dksX7_image_0 10 rfl rfl)
theorem dX7_image_11 : decode cX7_image 11 = .ok (.iaload, 1) := dk_46 (dk_at dksX7_image_0 11 rfl rfl)
theorem dX7_image_12 : decode cX7_image 12 = .ok (.sipush 256, 3) := dk_17 1 0 (dk_at dksX7_image_0 12 rfl rfl)
theorem dX7_image_15 : decode cX7_image 15 = .ok (.idiv, 1) := dk_108 (dk_at dksX7_image_0 15 rfl rfl)
theorem dX7_image_16 : decode cX7_image 16 = .ok (.invokevirtual 774, 3) := dk_182 3 6 (dk_at dksX7_image_0 16 rfl rfl)
theorem dX7_image_19 : decode cX7_image 19 = .ok (.aload_n 0, 1) := dk_42 (dk_at dksX7_image_0 19 rfl rfl)
theorem dX7_image_20 : decode cX7_image 20 = .ok (.aload_n 0, 1) := dk_42 (dk_at dksX7_image_0 20 rfl rfl)
theorem dX7_image_21 : decode cX7_image 21 = .ok (.getfield 154, 3) := dk_180 0 154 (dk_at dksX7_image_0 21 rfl rfl)
theorem dX7_image_24 : decode cX7_image 24 = .ok (.iconst 0, 1) := dk_3 (dk_at dksX7_image_1 0 rfl rfl)
theorem dX7_image_25 : decode cX7_image 25 = .ok (.iaload, 1) := dk_46 (dk_at dksX7_image_1 1 rfl rfl)
theorem dX7_image_26 : decode cX7_image 26 = .ok (.sipush 256, 3) := dk_17 1 0 (dk_at dksX7_image_1 2 rfl rfl)
theorem dX7_image_29 : decode cX7_image 29 = .ok (.irem, 1) := dk_112 (dk_at dksX7_image_1 5 rfl rfl)
theorem dX7_image_30 : decode cX7_image 30 = .ok (.invokevirtual 774, 3) := dk_182 3 6 (dk_at dksX7_image_1 6 rfl rfl)
theorem dX7_image_33 : decode cX7_image 33 = .ok (.aload_n 0, 1) := dk_42 (dk_at dksX7_image_1 9 rfl rfl)
theorem dX7_image_34 : decode cX7_image 34 = .ok (.aload_n 0, 1) := dk_42 (dk_at dksX7_image_1 10 rfl rfl)
theorem dX7_image_35 : decode cX7_image 35 = .ok (.getfield 154, 3) := dk_180 0 154 (dk_at dksX7_image_1 11 rfl rfl)
theorem dX7_image_38 : decode cX7_image 38 = .ok (.iconst 1, 1) := dk_4 (dk_at dksX7_image_1 14 rfl rfl)
theorem dX7_image_39 : decode cX7_image 39 = .ok (.iaload, 1) := dk_46 (dk_at dksX7_image_1 15 rfl rfl)
theorem dX7_image_40 : decode cX7_image 40 = .ok (.invokevirtual 774, 3) := dk_182 3 6 (dk_at dksX7_image_1 16 rfl rfl)
theorem dX7_image_43 : decode cX7_image 43 = .ok (.iconst 0, 1) := dk_3 (dk_at dksX7_image_1 19 rfl rfl)
theorem dX7_image_44 : decode cX7_image 44 = .ok (.istore_n 1, 1) := dk_60 (dk_at dksX7_image_1 20 rfl rfl)
theorem dX7_image_45 : decode cX7_image 45 = .ok (.iload_n 1, 1) := dk_27 (dk_at dksX7_image_1 21 rfl rfl)
theorem dX7_image_46 : decode cX7_image 46 = .ok (.iconst 2, 1) := dk_5 (dk_at dksX7_image_1 22 rfl rfl)
theorem dX7_image_47 : decode cX7_image 47 = .ok (.aload_n 0, 1) := dk_42 (dk_at dksX7_image_1 23 rfl rfl)
theorem dX7_image_48 : decode cX7_image 48 = .ok (.invokevirtual 433, 3) := dk_182 1 177 (dk_at dksX7_image_2 0 rfl rfl)
theorem dX7_image_51 : decode cX7_image 51 = .ok (.imul, 1) := dk_104 (dk_at dksX7_image_2 3 rfl rfl)
theorem dX7_image_52 : decode cX7_image 52 = .ok (.if_icmp .ge 39, 3) := dk_162 0 39 (dk_at dksX7_image_2 4 rfl rfl)
theorem dX7_image_55 : decode cX7_image 55 = .ok (.aload_n 0, 1) := dk_42 (dk_at dksX7_image_2 7 rfl rfl)
theorem dX7_image_56 : decode cX7_image 56 = .ok (.aload_n 0, 1) := dk_42 (dk_at dksX7_image_2 8 rfl rfl)
theorem dX7_image_57 : decode cX7_image 57 = .ok (.getfield 154, 3) := dk_180 0 154 (dk_at dksX7_image_2 9 rfl rfl)
theorem dX7_image_60 : decode cX7_image 60 = .ok (.iconst 2, 1) := dk_5 (dk_at dksX7_image_2 12 rfl rfl)
theorem dX7_image_61 : decode cX7_image 61 = .ok (.iload_n 1, 1) := dk_27 (dk_at dksX7_image_2 13 rfl rfl)
theorem dX7_image_62 : decode cX7_image 62 = .ok (.iadd, 1) := dk_96 (dk_at dksX7_image_2 14 rfl rfl)
theorem dX7_image_63 : decode cX7_image 63 = .ok (.iaload, 1) := dk_46 (dk_at dksX7_image_2 15 rfl rfl)
theorem dX7_image_64 : decode cX7_image 64 = .ok (.iconst (-1), 1) := dk_2 (dk_at dksX7_image_2 16 rfl rfl)
theorem dX7_image_65 : decode cX7_image 65 = .ok (.if_icmp .ne 9, 3) := dk_160 0 9 (dk_at dksX7_image_2 17 rfl rfl)
theorem dX7_image_68 : decode cX7_image 68 = .ok (.sipush 255, 3) := dk_17 0 255 (dk_at dksX7_image_2 20 rfl rfl)
theorem dX7_image_71 : decode cX7_image 71 = .ok (.goto 11, 3) := dk_167 0 11 (dk_at dksX7_image_3 0 rfl rfl)
theorem dX7_image_74 : decode cX7_image 74 = .ok (.aload_n 0, 1) := dk_42 (dk_at dksX7_image_3 3 rfl rfl)
theorem dX7_image_75 : decode cX7_image 75 = .ok (.getfield 154, 3) := dk_180 0 154 (dk_at dksX7_image_3 4 rfl rfl)
theorem dX7_image_78 : decode cX7_image 78 = .ok (.iconst 2, 1) := dk_5 (dk_at dksX7_image_3 7 rfl rfl)
theorem dX7_image_79 : decode cX7_image 79 = .ok (.iload_n 1, 1) := dk_27 (dk_at dksX7_image_3 8 rfl rfl)
theorem dX7_image_80 : decode cX7_image 80 = .ok (.iadd, 1) := dk_96 (dk_at dksX7_image_3 9 rfl rfl)
theorem dX7_image_81 : decode cX7_image 81 = .ok (.iaload, 1) := dk_46 (dk_at dksX7_image_3 10 rfl rfl)
theorem dX7_image_82 : decode cX7_image 82 = .ok (.invokevirtual 774, 3) := dk_182 3 6 (dk_at dksX7_image_3 11 rfl rfl)
theorem dX7_image_85 : decode cX7_image 85 = .ok (.iinc 1 1, 3) := dk_132 1 1 (dk_at dksX7_image_3 14 rfl rfl)
theorem dX7_image_88 : decode cX7_image 88 = .ok (.goto (-43), 3) := dk_167 255 213 (dk_at dksX7_image_3 17 rfl rfl)
theorem dX7_image_91 : decode cX7_image 91 = .ok (.iconst 0, 1) := dk_3 (dk_at dksX7_image_3 20 rfl rfl)
theorem dX7_image_92 : decode cX7_image 92 = .ok (.istore_n 1, 1) := dk_60 (dk_at dksX7_image_3 21 rfl rfl)
theorem dX7_image_93 : decode cX7_image 93 = .ok (.iload_n 1, 1) := dk_27 (dk_at dksX7_image_3 22 rfl rfl)
theorem dX7_image_94 : decode cX7_image 94 = .ok (.aload_n 0, 1) := dk_42 (dk_at dksX7_image_3 23 rfl rfl)
theorem dX7_image_95 : decode cX7_image 95 = .ok (.invokevirtual 436, 3) := dk_182 1 180 (dk_at dksX7_image_4 0 rfl rfl)
theorem dX7_image_98 : decode cX7_image 98 = .ok (.if_icmp .ge 43, 3) := dk_162 0 43 (dk_at dksX7_image_4 3 rfl rfl)
theorem dX7_image_101 : decode cX7_image 101 = .ok (.aload_n 0, 1) := dk_42 (dk_at dksX7_image_4 6 rfl rfl)
theorem dX7_image_102 : decode cX7_image 102 = .ok (.aload_n 0, 1) := dk_42 (dk_at dksX7_image_4 7 rfl rfl)
theorem dX7_image_103 : decode cX7_image 103 = .ok (.getfield 154, 3) := dk_180 0 154 (dk_at dksX7_image_4 8 rfl rfl)
theorem dX7_image_106 : decode cX7_image 106 = .ok (.bipush 18, 2) := dk_16 18 (dk_at dksX7_image_4 11 rfl rfl)
theorem dX7_image_108 : decode cX7_image 108 = .ok (.iload_n 1, 1) := dk_27 (dk_at dksX7_image_4 13 rfl rfl)
theorem dX7_image_109 : decode cX7_image 109 = .ok (.iadd, 1) := dk_96 (dk_at dksX7_image_4 14 rfl rfl)
theorem dX7_image_110 : decode cX7_image 110 = .ok (.iaload, 1) := dk_46 (dk_at dksX7_image_4 15 rfl rfl)
theorem dX7_image_111 : decode cX7_image 111 = .ok (.sipush 256, 3) := dk_17 1 0 (dk_at dksX7_image_4 16 rfl rfl)
theorem dX7_image_114 : decode cX7_image 114 = .ok (.idiv, 1) := dk_108 (dk_at dksX7_image_4 19 rfl rfl)
theorem dX7_image_115 : decode cX7_image 115 = .ok (.invokevirtual 774, 3) := dk_182 3 6 (dk_at dksX7_image_4 20 rfl rfl)
theorem dX7_image_118 : decode cX7_image 118 = .ok (.aload_n 0, 1) := dk_42 (dk_at dksX7_image_4 23 rfl rfl)
theorem dX7_image_119 : decode cX7_image 119 = .ok (.aload_n 0, 1) := dk_42 (dk_at dksX7_image_5 0 rfl rfl)
theorem dX7_image_120 : decode cX7_image 120 = .ok (.getfield 154, 3) := dk_180 0 154 (dk_at dksX7_image_5 1 rfl rfl)
theorem dX7_image_123 : decode cX7_image 123 = .ok (.bipush 18, 2) := dk_16 18 (dk_at dksX7_image_5 4 rfl rfl)
theorem dX7_image_125 : decode cX7_image 125 = .ok (.iload_n 1, 1) := dk_27 (dk_at dksX7_image_5 6 rfl rfl)
theorem dX7_image_126 : decode cX7_image 126 = .ok (.iadd, 1) := dk_96 (dk_at dksX7_image_5 7 rfl rfl)
theorem dX7_image_127 : decode cX7_image 127 = .ok (.iaload, 1) := dk_46 (dk_at dksX7_image_5 8 rfl rfl)
theorem dX7_image_128 : decode cX7_image 128 = .ok (.sipush 256, 3) := dk_17 1 0 (dk_at dksX7_image_5 9 rfl rfl)
theorem dX7_image_131 : decode cX7_image 131 = .ok (.irem, 1) := dk_112 (dk_at dksX7_image_5 12 rfl rfl)
theorem dX7_image_132 : decode cX7_image 132 = .ok (.invokevirtual 774, 3) := dk_182 3 6 (dk_at dksX7_image_5 13 rfl rfl)
theorem dX7_image_135 : decode cX7_image 135 = .ok (.iinc 1 1, 3) := dk_132 1 1 (dk_at dksX7_image_5 16 rfl rfl)
theorem dX7_image_138 : decode cX7_image 138 = .ok (.goto (-45), 3) := dk_167 255 211 (dk_at dksX7_image_5 19 rfl rfl)
theorem dX7_image_141 : decode cX7_image 141 = .ok (.aload_n 0, 1) := dk_42 (dk_at dksX7_image_5 22 rfl rfl)
theorem dX7_image_142 : decode cX7_image 142 = .ok (.aload_n 0, 1) := dk_42 (dk_at dksX7_image_5 23 rfl rfl)
theorem dX7_image_143 : decode cX7_image 143 = .ok (.getfield 272, 3) := dk_180 1 16 (dk_at dksX7_image_6 0 rfl rfl)
theorem dX7_image_146 : decode cX7_image 146 = .ok (.aload_n 0, 1) := dk_42 (dk_at dksX7_image_6 3 rfl rfl)
theorem dX7_image_147 : decode cX7_image 147 = .ok (.getfield 771, 3) := dk_180 3 3 (dk_at dksX7_image_6 4 rfl rfl)
theorem dX7_image_150 : decode cX7_image 150 = .ok (.invokestatic 777, 3) := dk_184 3 9 (dk_at dksX7_image_6 7 rfl rfl)
theorem dX7_image_153 : decode cX7_image 153 = .ok (.invokevirtual 774, 3) := dk_182 3 6 (dk_at dksX7_image_6 10 rfl rfl)
theorem dX7_image_156 : decode cX7_image 156 = .ok (.aload_n 0, 1) := dk_42 (dk_at dksX7_image_6 13 rfl rfl)
theorem dX7_image_157 : decode cX7_image 157 = .ok (.getfield 771, 3) := dk_180 3 3 (dk_at dksX7_image_6 14 rfl rfl)
theorem dX7_image_160 : decode cX7_image 160 = .ok (.ireturn, 1) := dk_172 (dk_at dksX7_image_6 17 rfl rfl)
abbrev cX7_writes : ByteArray := prog_25_method_146_code
def yX7_writes : MethodName := ⟨RX7, "writes", "(I)V"⟩
def dkwX7_writes_0 : List UInt8 := [42, 180, 1, 16, 42, 180, 3, 3, 27, 79, 42, 89, 180, 3, 3, 4, 96, 181, 3, 3, 177]
abbrev dktX7_writes_0 : List UInt8 := dkwX7_writes_0 ++ []
theorem dksX7_writes_0 : cX7_writes.data.toList.drop 0 = dktX7_writes_0 := by decide +kernel
theorem dX7_writes_0 : decode cX7_writes 0 = .ok (.aload_n 0, 1) := dk_42 (dk_at dksX7_writes_0 0 rfl rfl)
theorem dX7_writes_1 : decode cX7_writes 1 = .ok (.getfield 272, 3) := dk_180 1 16 (dk_at dksX7_writes_0 1 rfl rfl)
theorem dX7_writes_4 : decode cX7_writes 4 = .ok (.aload_n 0, 1) := dk_42 (dk_at dksX7_writes_0 4 rfl rfl)
theorem dX7_writes_5 : decode cX7_writes 5 = .ok (.getfield 771, 3) := dk_180 3 3 (dk_at dksX7_writes_0 5 rfl rfl)
theorem dX7_writes_8 : decode cX7_writes 8 = .ok (.iload_n 1, 1) := dk_27 (dk_at dksX7_writes_0 8 rfl rfl)
theorem dX7_writes_9 : decode cX7_writes 9 = .ok (.iastore, 1) := dk_79 (dk_at dksX7_writes_0 9 rfl rfl)
theorem dX7_writes_10 : decode cX7_writes 10 = .ok (.aload_n 0, 1) := dk_42 (dk_at dksX7_writes_0 10 rfl rfl)
theorem dX7_writes_11 : decode cX7_writes 11 = .ok (.dup, 1) := dk_89 (dk_at dksX7_writes_0 11 rfl rfl)
theorem dX7_writes_12 : decode cX7_writes 12 = .ok (.getfield 771, 3) := dk_180 3 3 (dk_at dksX7_writes_0 12 rfl rfl)
theorem dX7_writes_15 : decode cX7_writes 15 = .ok (.iconst 1, 1) := dk_4 (dk_at dksX7_writes_0 15 rfl rfl)
theorem dX7_writes_16 : decode cX7_writes 16 = .ok (.iadd, 1) := dk_96 (dk_at dksX7_writes_0 16 rfl rfl)
theorem dX7_writes_17 : decode cX7_writes 17 = .ok (.putfield 771, 3) := dk_181 3 3 (dk_at dksX7_writes_0 17 rfl rfl)
theorem dX7_writes_20 : decode cX7_writes 20 = .ok (.return_, 1) := dk_177 (dk_at dksX7_writes_0 20 rfl rfl)
abbrev cX7_checked : ByteArray := prog_25_method_145_code
def yX7_checked : MethodName := ⟨RX7, "checked", "([II)I"⟩
def dkwX7_checked_1 : List UInt8 := [132, 3, 1, 167, 255, 236, 28, 172]
abbrev dktX7_checked_1 : List UInt8 := dkwX7_checked_1 ++ []
def dkwX7_checked_0 : List UInt8 := [16, 59, 61, 3, 62, 29, 27, 162, 0, 21, 6, 28, 104, 42, 29, 46, 96, 17, 0, 251, 112, 61]
abbrev dktX7_checked_0 : List UInt8 := dkwX7_checked_0 ++ dktX7_checked_1
theorem dksX7_checked_0 : cX7_checked.data.toList.drop 0 = dktX7_checked_0 := by decide +kernel
theorem dksX7_checked_1 : cX7_checked.data.toList.drop 22 = dktX7_checked_1 := dk_seg dksX7_checked_0 22 rfl rfl
theorem dX7_checked_0 : decode cX7_checked 0 = .ok (.bipush 59, 2) := dk_16 59 (dk_at dksX7_checked_0 0 rfl rfl)
theorem dX7_checked_2 : decode cX7_checked 2 = .ok (.istore_n 2, 1) := dk_61 (dk_at dksX7_checked_0 2 rfl rfl)
theorem dX7_checked_3 : decode cX7_checked 3 = .ok (.iconst 0, 1) := dk_3 (dk_at dksX7_checked_0 3 rfl rfl)
theorem dX7_checked_4 : decode cX7_checked 4 = .ok (.istore_n 3, 1) := dk_62 (dk_at dksX7_checked_0 4 rfl rfl)
theorem dX7_checked_5 : decode cX7_checked 5 = .ok (.iload_n 3, 1) := dk_29 (dk_at dksX7_checked_0 5 rfl rfl)
theorem dX7_checked_6 : decode cX7_checked 6 = .ok (.iload_n 1, 1) := dk_27 (dk_at dksX7_checked_0 6 rfl rfl)
theorem dX7_checked_7 : decode cX7_checked 7 = .ok (.if_icmp .ge 21, 3) := dk_162 0 21 (dk_at dksX7_checked_0 7 rfl rfl)
theorem dX7_checked_10 : decode cX7_checked 10 = .ok (.iconst 3, 1) := dk_6 (dk_at dksX7_checked_0 10 rfl rfl)
theorem dX7_checked_11 : decode cX7_checked 11 = .ok (.iload_n 2, 1) := dk_28 (dk_at dksX7_checked_0 11 rfl rfl)
theorem dX7_checked_12 : decode cX7_checked 12 = .ok (.imul, 1) := dk_104 (dk_at dksX7_checked_0 12 rfl rfl)
theorem dX7_checked_13 : decode cX7_checked 13 = .ok (.aload_n 0, 1) := dk_42 (dk_at dksX7_checked_0 13 rfl rfl)
theorem dX7_checked_14 : decode cX7_checked 14 = .ok (.iload_n 3, 1) := dk_29 (dk_at dksX7_checked_0 14 rfl rfl)
theorem dX7_checked_15 : decode cX7_checked 15 = .ok (.iaload, 1) := dk_46 (dk_at dksX7_checked_0 15 rfl rfl)
theorem dX7_checked_16 : decode cX7_checked 16 = .ok (.iadd, 1) := dk_96 (dk_at dksX7_checked_0 16 rfl rfl)
theorem dX7_checked_17 : decode cX7_checked 17 = .ok (.sipush 251, 3) := dk_17 0 251 (dk_at dksX7_checked_0 17 rfl rfl)
theorem dX7_checked_20 : decode cX7_checked 20 = .ok (.irem, 1) := dk_112 (dk_at dksX7_checked_0 20 rfl rfl)
theorem dX7_checked_21 : decode cX7_checked 21 = .ok (.istore_n 2, 1) := dk_61 (dk_at dksX7_checked_0 21 rfl rfl)
theorem dX7_checked_22 : decode cX7_checked 22 = .ok (.iinc 3 1, 3) := dk_132 3 1 (dk_at dksX7_checked_1 0 rfl rfl)
theorem dX7_checked_25 : decode cX7_checked 25 = .ok (.goto (-20), 3) := dk_167 255 236 (dk_at dksX7_checked_1 3 rfl rfl)
theorem dX7_checked_28 : decode cX7_checked 28 = .ok (.iload_n 2, 1) := dk_28 (dk_at dksX7_checked_1 6 rfl rfl)
theorem dX7_checked_29 : decode cX7_checked 29 = .ok (.ireturn, 1) := dk_172 (dk_at dksX7_checked_1 7 rfl rfl)
abbrev cX7_octet : ByteArray := prog_25_method_148_code
def yX7_octet : MethodName := ⟨RX7, "octet", "(I)I"⟩
def dkwX7_octet_0 : List UInt8 := [27, 155, 0, 20, 27, 42, 180, 3, 3, 162, 0, 12, 42, 180, 1, 16, 27, 46, 167, 0, 4, 2, 172]
abbrev dktX7_octet_0 : List UInt8 := dkwX7_octet_0 ++ []
theorem dksX7_octet_0 : cX7_octet.data.toList.drop 0 = dktX7_octet_0 := by decide +kernel
theorem dX7_octet_0 : decode cX7_octet 0 = .ok (.iload_n 1, 1) := dk_27 (dk_at dksX7_octet_0 0 rfl rfl)
theorem dX7_octet_1 : decode cX7_octet 1 = .ok (.ifCond .lt 20, 3) := dk_155 0 20 (dk_at dksX7_octet_0 1 rfl rfl)
theorem dX7_octet_4 : decode cX7_octet 4 = .ok (.iload_n 1, 1) := dk_27 (dk_at dksX7_octet_0 4 rfl rfl)
theorem dX7_octet_5 : decode cX7_octet 5 = .ok (.aload_n 0, 1) := dk_42 (dk_at dksX7_octet_0 5 rfl rfl)
theorem dX7_octet_6 : decode cX7_octet 6 = .ok (.getfield 771, 3) := dk_180 3 3 (dk_at dksX7_octet_0 6 rfl rfl)
theorem dX7_octet_9 : decode cX7_octet 9 = .ok (.if_icmp .ge 12, 3) := dk_162 0 12 (dk_at dksX7_octet_0 9 rfl rfl)
theorem dX7_octet_12 : decode cX7_octet 12 = .ok (.aload_n 0, 1) := dk_42 (dk_at dksX7_octet_0 12 rfl rfl)
theorem dX7_octet_13 : decode cX7_octet 13 = .ok (.getfield 272, 3) := dk_180 1 16 (dk_at dksX7_octet_0 13 rfl rfl)
theorem dX7_octet_16 : decode cX7_octet 16 = .ok (.iload_n 1, 1) := dk_27 (dk_at dksX7_octet_0 16 rfl rfl)
theorem dX7_octet_17 : decode cX7_octet 17 = .ok (.iaload, 1) := dk_46 (dk_at dksX7_octet_0 17 rfl rfl)
theorem dX7_octet_18 : decode cX7_octet 18 = .ok (.goto 4, 3) := dk_167 0 4 (dk_at dksX7_octet_0 18 rfl rfl)
theorem dX7_octet_21 : decode cX7_octet 21 = .ok (.iconst (-1), 1) := dk_2 (dk_at dksX7_octet_0 21 rfl rfl)
theorem dX7_octet_22 : decode cX7_octet 22 = .ok (.ireturn, 1) := dk_172 (dk_at dksX7_octet_0 22 rfl rfl)
abbrev cX7_on : ByteArray := prog_25_method_150_code
def yX7_on : MethodName := ⟨RX7, "on", "()Z"⟩
def dkwX7_on_8 : List UInt8 := [16, 24, 3, 79, 42, 3, 181, 1, 171, 4, 172]
abbrev dktX7_on_8 : List UInt8 := dkwX7_on_8 ++ []
def dkwX7_on_7 : List UInt8 := [180, 0, 7, 28, 5, 29, 104, 96, 4, 96, 46, 96, 79, 132, 3, 1, 167, 255, 209, 42, 180, 0, 154]
abbrev dktX7_on_7 : List UInt8 := dkwX7_on_7 ++ dktX7_on_8
def dkwX7_on_6 : List UInt8 := [180, 0, 154, 16, 18, 29, 96, 17, 1, 0, 42, 180, 0, 7, 28, 5, 29, 104, 96, 46, 104, 42]
abbrev dktX7_on_6 : List UInt8 := dkwX7_on_6 ++ dktX7_on_7
def dkwX7_on_5 : List UInt8 := [167, 255, 209, 6, 5, 42, 182, 1, 177, 104, 96, 61, 3, 62, 29, 42, 182, 1, 180, 162, 0, 45, 42]
abbrev dktX7_on_5 : List UInt8 := dkwX7_on_5 ++ dktX7_on_6
def dkwX7_on_4 : List UInt8 := [17, 0, 255, 160, 0, 7, 2, 167, 0, 11, 42, 180, 0, 7, 6, 28, 96, 46, 79, 132, 2, 1]
abbrev dktX7_on_4 : List UInt8 := dkwX7_on_4 ++ dktX7_on_5
def dkwX7_on_3 : List UInt8 := [182, 1, 177, 104, 162, 0, 43, 42, 180, 0, 154, 5, 28, 96, 42, 180, 0, 7, 6, 28, 96, 46]
abbrev dktX7_on_3 : List UInt8 := dkwX7_on_3 ++ dktX7_on_4
def dkwX7_on_2 : List UInt8 := [180, 0, 7, 4, 46, 96, 79, 42, 180, 0, 154, 4, 42, 180, 0, 7, 5, 46, 79, 3, 61, 28, 5, 42]
abbrev dktX7_on_2 : List UInt8 := dkwX7_on_2 ++ dktX7_on_3
def dkwX7_on_1 : List UInt8 := [46, 4, 96, 79, 3, 172, 42, 180, 0, 154, 3, 17, 1, 0, 42, 180, 0, 7, 3, 46, 104, 42]
abbrev dktX7_on_1 : List UInt8 := dkwX7_on_1 ++ dktX7_on_2
def dkwX7_on_0 : List UInt8 := [42, 180, 1, 19, 60, 42, 3, 181, 1, 19, 42, 27, 182, 3, 13, 154, 0, 15, 42, 180, 0, 17, 8, 92]
abbrev dktX7_on_0 : List UInt8 := dkwX7_on_0 ++ dktX7_on_1
theorem dksX7_on_0 : cX7_on.data.toList.drop 0 = dktX7_on_0 := by decide +kernel
theorem dksX7_on_1 : cX7_on.data.toList.drop 24 = dktX7_on_1 := dk_seg dksX7_on_0 24 rfl rfl
theorem dksX7_on_2 : cX7_on.data.toList.drop 46 = dktX7_on_2 := dk_seg dksX7_on_1 22 rfl rfl
theorem dksX7_on_3 : cX7_on.data.toList.drop 70 = dktX7_on_3 := dk_seg dksX7_on_2 24 rfl rfl
theorem dksX7_on_4 : cX7_on.data.toList.drop 92 = dktX7_on_4 := dk_seg dksX7_on_3 22 rfl rfl
theorem dksX7_on_5 : cX7_on.data.toList.drop 114 = dktX7_on_5 := dk_seg dksX7_on_4 22 rfl rfl
theorem dksX7_on_6 : cX7_on.data.toList.drop 137 = dktX7_on_6 := dk_seg dksX7_on_5 23 rfl rfl
theorem dksX7_on_7 : cX7_on.data.toList.drop 159 = dktX7_on_7 := dk_seg dksX7_on_6 22 rfl rfl
theorem dksX7_on_8 : cX7_on.data.toList.drop 182 = dktX7_on_8 := dk_seg dksX7_on_7 23 rfl rfl
theorem dX7_on_0 : decode cX7_on 0 = .ok (.aload_n 0, 1) := dk_42 (dk_at dksX7_on_0 0 rfl rfl)
theorem dX7_on_1 : decode cX7_on 1 = .ok (.getfield 275, 3) := dk_180 1 19 (dk_at dksX7_on_0 1 rfl rfl)
theorem dX7_on_4 : decode cX7_on 4 = .ok (.istore_n 1, 1) := dk_60 (dk_at dksX7_on_0 4 rfl rfl)
theorem dX7_on_5 : decode cX7_on 5 = .ok (.aload_n 0, 1) := dk_42 (dk_at dksX7_on_0 5 rfl rfl)
theorem dX7_on_6 : decode cX7_on 6 = .ok (.iconst 0, 1) := dk_3 (dk_at dksX7_on_0 6 rfl rfl)
theorem dX7_on_7 : decode cX7_on 7 = .ok (.putfield 275, 3) := dk_181 1 19 (dk_at dksX7_on_0 7 rfl rfl)
theorem dX7_on_10 : decode cX7_on 10 = .ok (.aload_n 0, 1) := dk_42 (dk_at dksX7_on_0 10 rfl rfl)
theorem dX7_on_11 : decode cX7_on 11 = .ok (.iload_n 1, 1) := dk_27 (dk_at dksX7_on_0 11 rfl rfl)
theorem dX7_on_12 : decode cX7_on 12 = .ok (.invokevirtual 781, 3) := dk_182 3 13 (dk_at dksX7_on_0 12 rfl rfl)
theorem dX7_on_15 : decode cX7_on 15 = .ok (.ifCond .ne 15, 3) := dk_154 0 15 (dk_at dksX7_on_0 15 rfl rfl)
theorem dX7_on_18 : decode cX7_on 18 = .ok (.aload_n 0, 1) := dk_42 (dk_at dksX7_on_0 18 rfl rfl)
theorem dX7_on_19 : decode cX7_on 19 = .ok (.getfield 17, 3) := dk_180 0 17 (dk_at dksX7_on_0 19 rfl rfl)
theorem dX7_on_22 : decode cX7_on 22 = .ok (.iconst 5, 1) := dk_8 (dk_at dksX7_on_0 22 rfl rfl)
theorem dX7_on_23 : decode cX7_on 23 = .ok (.dup2, 1) := dk_92 (dk_at dksX7_on_0 23 rfl rfl)
theorem dX7_on_24 : decode cX7_on 24 = .ok (.iaload, 1) := dk_46 (dk_at dksX7_on_1 0 rfl rfl)
theorem dX7_on_25 : decode cX7_on 25 = .ok (.iconst 1, 1) := dk_4 (dk_at dksX7_on_1 1 rfl rfl)
theorem dX7_on_26 : decode cX7_on 26 = .ok (.iadd, 1) := dk_96 (dk_at dksX7_on_1 2 rfl rfl)
theorem dX7_on_27 : decode cX7_on 27 = .ok (.iastore, 1) := dk_79 (dk_at dksX7_on_1 3 rfl rfl)
theorem dX7_on_28 : decode cX7_on 28 = .ok (.iconst 0, 1) := dk_3 (dk_at dksX7_on_1 4 rfl rfl)
theorem dX7_on_29 : decode cX7_on 29 = .ok (.ireturn, 1) := dk_172 (dk_at dksX7_on_1 5 rfl rfl)
theorem dX7_on_30 : decode cX7_on 30 = .ok (.aload_n 0, 1) := dk_42 (dk_at dksX7_on_1 6 rfl rfl)
theorem dX7_on_31 : decode cX7_on 31 = .ok (.getfield 154, 3) := dk_180 0 154 (dk_at dksX7_on_1 7 rfl rfl)
theorem dX7_on_34 : decode cX7_on 34 = .ok (.iconst 0, 1) := dk_3 (dk_at dksX7_on_1 10 rfl rfl)
theorem dX7_on_35 : decode cX7_on 35 = .ok (.sipush 256, 3) := dk_17 1 0 (dk_at dksX7_on_1 11 rfl rfl)
theorem dX7_on_38 : decode cX7_on 38 = .ok (.aload_n 0, 1) := dk_42 (dk_at dksX7_on_1 14 rfl rfl)
theorem dX7_on_39 : decode cX7_on 39 = .ok (.getfield 7, 3) := dk_180 0 7 (dk_at dksX7_on_1 15 rfl rfl)
theorem dX7_on_42 : decode cX7_on 42 = .ok (.iconst 0, 1) := dk_3 (dk_at dksX7_on_1 18 rfl rfl)
theorem dX7_on_43 : decode cX7_on 43 = .ok (.iaload, 1) := dk_46 (dk_at dksX7_on_1 19 rfl rfl)
theorem dX7_on_44 : decode cX7_on 44 = .ok (.imul, 1) := dk_104 (dk_at dksX7_on_1 20 rfl rfl)
theorem dX7_on_45 : decode cX7_on 45 = .ok (.aload_n 0, 1) := dk_42 (dk_at dksX7_on_1 21 rfl rfl)
theorem dX7_on_46 : decode cX7_on 46 = .ok (.getfield 7, 3) := dk_180 0 7 (dk_at dksX7_on_2 0 rfl rfl)
theorem dX7_on_49 : decode cX7_on 49 = .ok (.iconst 1, 1) := dk_4 (dk_at dksX7_on_2 3 rfl rfl)
theorem dX7_on_50 : decode cX7_on 50 = .ok (.iaload, 1) := dk_46 (dk_at dksX7_on_2 4 rfl rfl)
theorem dX7_on_51 : decode cX7_on 51 = .ok (.iadd, 1) := dk_96 (dk_at dksX7_on_2 5 rfl rfl)
theorem dX7_on_52 : decode cX7_on 52 = .ok (.iastore, 1) := dk_79 (dk_at dksX7_on_2 6 rfl rfl)
theorem dX7_on_53 : decode cX7_on 53 = .ok (.aload_n 0, 1) := dk_42 (dk_at dksX7_on_2 7 rfl rfl)
theorem dX7_on_54 : decode cX7_on 54 = .ok (.getfield 154, 3) := dk_180 0 154 (dk_at dksX7_on_2 8 rfl rfl)
theorem dX7_on_57 : decode cX7_on 57 = .ok (.iconst 1, 1) := dk_4 (dk_at dksX7_on_2 11 rfl rfl)
theorem dX7_on_58 : decode cX7_on 58 = .ok (.aload_n 0, 1) := dk_42 (dk_at dksX7_on_2 12 rfl rfl)
theorem dX7_on_59 : decode cX7_on 59 = .ok (.getfield 7, 3) := dk_180 0 7 (dk_at dksX7_on_2 13 rfl rfl)
theorem dX7_on_62 : decode cX7_on 62 = .ok (.iconst 2, 1) := dk_5 (dk_at dksX7_on_2 16 rfl rfl)
theorem dX7_on_63 : decode cX7_on 63 = .ok (.iaload, 1) := dk_46 (dk_at dksX7_on_2 17 rfl rfl)
theorem dX7_on_64 : decode cX7_on 64 = .ok (.iastore, 1) := dk_79 (dk_at dksX7_on_2 18 rfl rfl)
theorem dX7_on_65 : decode cX7_on 65 = .ok (.iconst 0, 1) := dk_3 (dk_at dksX7_on_2 19 rfl rfl)
theorem dX7_on_66 : decode cX7_on 66 = .ok (.istore_n 2, 1) := dk_61 (dk_at dksX7_on_2 20 rfl rfl)
theorem dX7_on_67 : decode cX7_on 67 = .ok (.iload_n 2, 1) := dk_28 (dk_at dksX7_on_2 21 rfl rfl)
theorem dX7_on_68 : decode cX7_on 68 = .ok (.iconst 2, 1) := dk_5 (dk_at dksX7_on_2 22 rfl rfl)
theorem dX7_on_69 : decode cX7_on 69 = .ok (.aload_n 0, 1) := dk_42 (dk_at dksX7_on_2 23 rfl rfl)
theorem dX7_on_70 : decode cX7_on 70 = .ok (.invokevirtual 433, 3) := dk_182 1 177 (dk_at dksX7_on_3 0 rfl rfl)
theorem dX7_on_73 : decode cX7_on 73 = .ok (.imul, 1) := dk_104 (dk_at dksX7_on_3 3 rfl rfl)
theorem dX7_on_74 : decode cX7_on 74 = .ok (.if_icmp .ge 43, 3) := dk_162 0 43 (dk_at dksX7_on_3 4 rfl rfl)
theorem dX7_on_77 : decode cX7_on 77 = .ok (.aload_n 0, 1) := dk_42 (dk_at dksX7_on_3 7 rfl rfl)
theorem dX7_on_78 : decode cX7_on 78 = .ok (.getfield 154, 3) := dk_180 0 154 (dk_at dksX7_on_3 8 rfl rfl)
theorem dX7_on_81 : decode cX7_on 81 = .ok (.iconst 2, 1) := dk_5 (dk_at dksX7_on_3 11 rfl rfl)
theorem dX7_on_82 : decode cX7_on 82 = .ok (.iload_n 2, 1) := dk_28 (dk_at dksX7_on_3 12 rfl rfl)
theorem dX7_on_83 : decode cX7_on 83 = .ok (.iadd, 1) := dk_96 (dk_at dksX7_on_3 13 rfl rfl)
theorem dX7_on_84 : decode cX7_on 84 = .ok (.aload_n 0, 1) := dk_42 (dk_at dksX7_on_3 14 rfl rfl)
theorem dX7_on_85 : decode cX7_on 85 = .ok (.getfield 7, 3) := dk_180 0 7 (dk_at dksX7_on_3 15 rfl rfl)
theorem dX7_on_88 : decode cX7_on 88 = .ok (.iconst 3, 1) := dk_6 (dk_at dksX7_on_3 18 rfl rfl)
theorem dX7_on_89 : decode cX7_on 89 = .ok (.iload_n 2, 1) := dk_28 (dk_at dksX7_on_3 19 rfl rfl)
theorem dX7_on_90 : decode cX7_on 90 = .ok (.iadd, 1) := dk_96 (dk_at dksX7_on_3 20 rfl rfl)
theorem dX7_on_91 : decode cX7_on 91 = .ok (.iaload, 1) := dk_46 (dk_at dksX7_on_3 21 rfl rfl)
theorem dX7_on_92 : decode cX7_on 92 = .ok (.sipush 255, 3) := dk_17 0 255 (dk_at dksX7_on_4 0 rfl rfl)
theorem dX7_on_95 : decode cX7_on 95 = .ok (.if_icmp .ne 7, 3) := dk_160 0 7 (dk_at dksX7_on_4 3 rfl rfl)
theorem dX7_on_98 : decode cX7_on 98 = .ok (.iconst (-1), 1) := dk_2 (dk_at dksX7_on_4 6 rfl rfl)
theorem dX7_on_99 : decode cX7_on 99 = .ok (.goto 11, 3) := dk_167 0 11 (dk_at dksX7_on_4 7 rfl rfl)
theorem dX7_on_102 : decode cX7_on 102 = .ok (.aload_n 0, 1) := dk_42 (dk_at dksX7_on_4 10 rfl rfl)
theorem dX7_on_103 : decode cX7_on 103 = .ok (.getfield 7, 3) := dk_180 0 7 (dk_at dksX7_on_4 11 rfl rfl)
theorem dX7_on_106 : decode cX7_on 106 = .ok (.iconst 3, 1) := dk_6 (dk_at dksX7_on_4 14 rfl rfl)
theorem dX7_on_107 : decode cX7_on 107 = .ok (.iload_n 2, 1) := dk_28 (dk_at dksX7_on_4 15 rfl rfl)
theorem dX7_on_108 : decode cX7_on 108 = .ok (.iadd, 1) := dk_96 (dk_at dksX7_on_4 16 rfl rfl)
theorem dX7_on_109 : decode cX7_on 109 = .ok (.iaload, 1) := dk_46 (dk_at dksX7_on_4 17 rfl rfl)
theorem dX7_on_110 : decode cX7_on 110 = .ok (.iastore, 1) := dk_79 (dk_at dksX7_on_4 18 rfl rfl)
theorem dX7_on_111 : decode cX7_on 111 = .ok (.iinc 2 1, 3) := dk_132 2 1 (dk_at dksX7_on_4 19 rfl rfl)
theorem dX7_on_114 : decode cX7_on 114 = .ok (.goto (-47), 3) := dk_167 255 209 (dk_at dksX7_on_5 0 rfl rfl)
theorem dX7_on_117 : decode cX7_on 117 = .ok (.iconst 3, 1) := dk_6 (dk_at dksX7_on_5 3 rfl rfl)
theorem dX7_on_118 : decode cX7_on 118 = .ok (.iconst 2, 1) := dk_5 (dk_at dksX7_on_5 4 rfl rfl)
theorem dX7_on_119 : decode cX7_on 119 = .ok (.aload_n 0, 1) := dk_42 (dk_at dksX7_on_5 5 rfl rfl)
theorem dX7_on_120 : decode cX7_on 120 = .ok (.invokevirtual 433, 3) := dk_182 1 177 (dk_at dksX7_on_5 6 rfl rfl)
theorem dX7_on_123 : decode cX7_on 123 = .ok (.imul, 1) := dk_104 (dk_at dksX7_on_5 9 rfl rfl)
theorem dX7_on_124 : decode cX7_on 124 = .ok (.iadd, 1) := dk_96 (dk_at dksX7_on_5 10 rfl rfl)
theorem dX7_on_125 : decode cX7_on 125 = .ok (.istore_n 2, 1) := dk_61 (dk_at dksX7_on_5 11 rfl rfl)
theorem dX7_on_126 : decode cX7_on 126 = .ok (.iconst 0, 1) := dk_3 (dk_at dksX7_on_5 12 rfl rfl)
theorem dX7_on_127 : decode cX7_on 127 = .ok (.istore_n 3, 1) := dk_62 (dk_at dksX7_on_5 13 rfl rfl)
theorem dX7_on_128 : decode cX7_on 128 = .ok (.iload_n 3, 1) := dk_29 (dk_at dksX7_on_5 14 rfl rfl)
theorem dX7_on_129 : decode cX7_on 129 = .ok (.aload_n 0, 1) := dk_42 (dk_at dksX7_on_5 15 rfl rfl)
theorem dX7_on_130 : decode cX7_on 130 = .ok (.invokevirtual 436, 3) := dk_182 1 180 (dk_at dksX7_on_5 16 rfl rfl)
theorem dX7_on_133 : decode cX7_on 133 = .ok (.if_icmp .ge 45, 3) := dk_162 0 45 (dk_at dksX7_on_5 19 rfl rfl)
theorem dX7_on_136 : decode cX7_on 136 = .ok (.aload_n 0, 1) := dk_42 (dk_at dksX7_on_5 22 rfl rfl)
theorem dX7_on_137 : decode cX7_on 137 = .ok (.getfield 154, 3) := dk_180 0 154 (dk_at dksX7_on_6 0 rfl rfl)
theorem dX7_on_140 : decode cX7_on 140 = .ok (.bipush 18, 2) := dk_16 18 (dk_at dksX7_on_6 3 rfl rfl)
theorem dX7_on_142 : decode cX7_on 142 = .ok (.iload_n 3, 1) := dk_29 (dk_at dksX7_on_6 5 rfl rfl)
theorem dX7_on_143 : decode cX7_on 143 = .ok (.iadd, 1) := dk_96 (dk_at dksX7_on_6 6 rfl rfl)
theorem dX7_on_144 : decode cX7_on 144 = .ok (.sipush 256, 3) := dk_17 1 0 (dk_at dksX7_on_6 7 rfl rfl)
theorem dX7_on_147 : decode cX7_on 147 = .ok (.aload_n 0, 1) := dk_42 (dk_at dksX7_on_6 10 rfl rfl)
theorem dX7_on_148 : decode cX7_on 148 = .ok (.getfield 7, 3) := dk_180 0 7 (dk_at dksX7_on_6 11 rfl rfl)
theorem dX7_on_151 : decode cX7_on 151 = .ok (.iload_n 2, 1) := dk_28 (dk_at dksX7_on_6 14 rfl rfl)
theorem dX7_on_152 : decode cX7_on 152 = .ok (.iconst 2, 1) := dk_5 (dk_at dksX7_on_6 15 rfl rfl)
theorem dX7_on_153 : decode cX7_on 153 = .ok (.iload_n 3, 1) := dk_29 (dk_at dksX7_on_6 16 rfl rfl)
theorem dX7_on_154 : decode cX7_on 154 = .ok (.imul, 1) := dk_104 (dk_at dksX7_on_6 17 rfl rfl)
theorem dX7_on_155 : decode cX7_on 155 = .ok (.iadd, 1) := dk_96 (dk_at dksX7_on_6 18 rfl rfl)
theorem dX7_on_156 : decode cX7_on 156 = .ok (.iaload, 1) := dk_46 (dk_at dksX7_on_6 19 rfl rfl)
theorem dX7_on_157 : decode cX7_on 157 = .ok (.imul, 1) := dk_104 (dk_at dksX7_on_6 20 rfl rfl)
theorem dX7_on_158 : decode cX7_on 158 = .ok (.aload_n 0, 1) := dk_42 (dk_at dksX7_on_6 21 rfl rfl)
theorem dX7_on_159 : decode cX7_on 159 = .ok (.getfield 7, 3) := dk_180 0 7 (dk_at dksX7_on_7 0 rfl rfl)
theorem dX7_on_162 : decode cX7_on 162 = .ok (.iload_n 2, 1) := dk_28 (dk_at dksX7_on_7 3 rfl rfl)
theorem dX7_on_163 : decode cX7_on 163 = .ok (.iconst 2, 1) := dk_5 (dk_at dksX7_on_7 4 rfl rfl)
theorem dX7_on_164 : decode cX7_on 164 = .ok (.iload_n 3, 1) := dk_29 (dk_at dksX7_on_7 5 rfl rfl)
theorem dX7_on_165 : decode cX7_on 165 = .ok (.imul, 1) := dk_104 (dk_at dksX7_on_7 6 rfl rfl)
theorem dX7_on_166 : decode cX7_on 166 = .ok (.iadd, 1) := dk_96 (dk_at dksX7_on_7 7 rfl rfl)
theorem dX7_on_167 : decode cX7_on 167 = .ok (.iconst 1, 1) := dk_4 (dk_at dksX7_on_7 8 rfl rfl)
theorem dX7_on_168 : decode cX7_on 168 = .ok (.iadd, 1) := dk_96 (dk_at dksX7_on_7 9 rfl rfl)
theorem dX7_on_169 : decode cX7_on 169 = .ok (.iaload, 1) := dk_46 (dk_at dksX7_on_7 10 rfl rfl)
theorem dX7_on_170 : decode cX7_on 170 = .ok (.iadd, 1) := dk_96 (dk_at dksX7_on_7 11 rfl rfl)
theorem dX7_on_171 : decode cX7_on 171 = .ok (.iastore, 1) := dk_79 (dk_at dksX7_on_7 12 rfl rfl)
theorem dX7_on_172 : decode cX7_on 172 = .ok (.iinc 3 1, 3) := dk_132 3 1 (dk_at dksX7_on_7 13 rfl rfl)
theorem dX7_on_175 : decode cX7_on 175 = .ok (.goto (-47), 3) := dk_167 255 209 (dk_at dksX7_on_7 16 rfl rfl)
theorem dX7_on_178 : decode cX7_on 178 = .ok (.aload_n 0, 1) := dk_42 (dk_at dksX7_on_7 19 rfl rfl)
theorem dX7_on_179 : decode cX7_on 179 = .ok (.getfield 154, 3) := dk_180 0 154 (dk_at dksX7_on_7 20 rfl rfl)
theorem dX7_on_182 : decode cX7_on 182 = .ok (.bipush 24, 2) := dk_16 24 (dk_at dksX7_on_8 0 rfl rfl)
theorem dX7_on_184 : decode cX7_on 184 = .ok (.iconst 0, 1) := dk_3 (dk_at dksX7_on_8 2 rfl rfl)
theorem dX7_on_185 : decode cX7_on 185 = .ok (.iastore, 1) := dk_79 (dk_at dksX7_on_8 3 rfl rfl)
theorem dX7_on_186 : decode cX7_on 186 = .ok (.aload_n 0, 1) := dk_42 (dk_at dksX7_on_8 4 rfl rfl)
theorem dX7_on_187 : decode cX7_on 187 = .ok (.iconst 0, 1) := dk_3 (dk_at dksX7_on_8 5 rfl rfl)
theorem dX7_on_188 : decode cX7_on 188 = .ok (.putfield 427, 3) := dk_181 1 171 (dk_at dksX7_on_8 6 rfl rfl)
theorem dX7_on_191 : decode cX7_on 191 = .ok (.iconst 1, 1) := dk_4 (dk_at dksX7_on_8 9 rfl rfl)
theorem dX7_on_192 : decode cX7_on 192 = .ok (.ireturn, 1) := dk_172 (dk_at dksX7_on_8 10 rfl rfl)
abbrev cX7_isImage : ByteArray := prog_25_method_149_code
def yX7_isImage : MethodName := ⟨RX7, "isImage", "(I)Z"⟩
def dkwX7_isImage_6 : List UInt8 := [167, 255, 210, 4, 172]
abbrev dktX7_isImage_6 : List UInt8 := dkwX7_isImage_6 ++ []
def dkwX7_isImage_5 : List UInt8 := [180, 0, 7, 28, 5, 29, 104, 96, 4, 96, 46, 96, 17, 3, 231, 164, 0, 5, 3, 172, 132, 3, 1]
abbrev dktX7_isImage_5 : List UInt8 := dkwX7_isImage_5 ++ dktX7_isImage_6
def dkwX7_isImage_4 : List UInt8 := [62, 29, 42, 182, 1, 180, 162, 0, 44, 17, 1, 0, 42, 180, 0, 7, 28, 5, 29, 104, 96, 46, 104, 42]
abbrev dktX7_isImage_4 : List UInt8 := dkwX7_isImage_4 ++ dktX7_isImage_5
def dkwX7_isImage_3 : List UInt8 := [163, 0, 21, 42, 180, 0, 7, 5, 46, 4, 163, 0, 11, 42, 6, 182, 2, 142, 154, 0, 5, 3, 172, 3]
abbrev dktX7_isImage_3 : List UInt8 := dkwX7_isImage_3 ++ dktX7_isImage_4
def dkwX7_isImage_2 : List UInt8 := [160, 0, 44, 17, 1, 0, 42, 180, 0, 7, 3, 46, 104, 42, 180, 0, 7, 4, 46, 96, 17, 3, 231]
abbrev dktX7_isImage_2 : List UInt8 := dkwX7_isImage_2 ++ dktX7_isImage_3
def dkwX7_isImage_1 : List UInt8 := [96, 4, 96, 160, 0, 65, 42, 180, 0, 7, 27, 4, 100, 46, 42, 180, 0, 7, 27, 4, 100, 184, 3, 9]
abbrev dktX7_isImage_1 : List UInt8 := dkwX7_isImage_1 ++ dktX7_isImage_2
def dkwX7_isImage_0 : List UInt8 := [6, 5, 42, 182, 1, 177, 104, 96, 61, 42, 180, 1, 168, 153, 0, 79, 27, 28, 5, 42, 182, 1, 180, 104]
abbrev dktX7_isImage_0 : List UInt8 := dkwX7_isImage_0 ++ dktX7_isImage_1
theorem dksX7_isImage_0 : cX7_isImage.data.toList.drop 0 = dktX7_isImage_0 := by decide +kernel
theorem dksX7_isImage_1 : cX7_isImage.data.toList.drop 24 = dktX7_isImage_1 := dk_seg dksX7_isImage_0 24 rfl rfl
theorem dksX7_isImage_2 : cX7_isImage.data.toList.drop 48 = dktX7_isImage_2 := dk_seg dksX7_isImage_1 24 rfl rfl
theorem dksX7_isImage_3 : cX7_isImage.data.toList.drop 71 = dktX7_isImage_3 := dk_seg dksX7_isImage_2 23 rfl rfl
theorem dksX7_isImage_4 : cX7_isImage.data.toList.drop 95 = dktX7_isImage_4 := dk_seg dksX7_isImage_3 24 rfl rfl
theorem dksX7_isImage_5 : cX7_isImage.data.toList.drop 119 = dktX7_isImage_5 := dk_seg dksX7_isImage_4 24 rfl rfl
theorem dksX7_isImage_6 : cX7_isImage.data.toList.drop 142 = dktX7_isImage_6 := dk_seg dksX7_isImage_5 23 rfl rfl
theorem dX7_isImage_0 : decode cX7_isImage 0 = .ok (.iconst 3, 1) := dk_6 (dk_at dksX7_isImage_0 0 rfl rfl)
theorem dX7_isImage_1 : decode cX7_isImage 1 = .ok (.iconst 2, 1) := dk_5 (dk_at dksX7_isImage_0 1 rfl rfl)
theorem dX7_isImage_2 : decode cX7_isImage 2 = .ok (.aload_n 0, 1) := dk_42 (dk_at dksX7_isImage_0 2 rfl rfl)
theorem dX7_isImage_3 : decode cX7_isImage 3 = .ok (.invokevirtual 433, 3) := dk_182 1 177 (dk_at dksX7_isImage_0 3 rfl rfl)
theorem dX7_isImage_6 : decode cX7_isImage 6 = .ok (.imul, 1) := dk_104 (dk_at dksX7_isImage_0 6 rfl rfl)
theorem dX7_isImage_7 : decode cX7_isImage 7 = .ok (.iadd, 1) := dk_96 (dk_at dksX7_isImage_0 7 rfl rfl)
theorem dX7_isImage_8 : decode cX7_isImage 8 = .ok (.istore_n 2, 1) := dk_61 (dk_at dksX7_isImage_0 8 rfl rfl)
theorem dX7_isImage_9 : decode cX7_isImage 9 = .ok (.aload_n 0, 1) := dk_42 (dk_at dksX7_isImage_0 9 rfl rfl)
theorem dX7_isImage_10 : decode cX7_isImage 10 = .ok (.getfield 424, 3) := dk_180 1 168 (dk_at dksX7_isImage_0 10 rfl rfl)
theorem dX7_isImage_13 : decode cX7_isImage 13 = .ok (.ifCond .eq 79, 3) := dk_153 0 79 (dk_at dksX7_isImage_0 13 rfl rfl)
theorem dX7_isImage_16 : decode cX7_isImage 16 = .ok (.iload_n 1, 1) := dk_27 (dk_at dksX7_isImage_0 16 rfl rfl)
theorem dX7_isImage_17 : decode cX7_isImage 17 = .ok (.iload_n 2, 1) := dk_28 (dk_at dksX7_isImage_0 17 rfl rfl)
theorem dX7_isImage_18 : decode cX7_isImage 18 = .ok (.iconst 2, 1) := dk_5 (dk_at dksX7_isImage_0 18 rfl rfl)
theorem dX7_isImage_19 : decode cX7_isImage 19 = .ok (.aload_n 0, 1) := dk_42 (dk_at dksX7_isImage_0 19 rfl rfl)
theorem dX7_isImage_20 : decode cX7_isImage 20 = .ok (.invokevirtual 436, 3) := dk_182 1 180 (dk_at dksX7_isImage_0 20 rfl rfl)
theorem dX7_isImage_23 : decode cX7_isImage 23 = .ok (.imul, 1) := dk_104 (dk_at dksX7_isImage_0 23 rfl rfl)
theorem dX7_isImage_24 : decode cX7_isImage 24 = .ok (.iadd, 1) := dk_96 (dk_at dksX7_isImage_1 0 rfl rfl)
theorem dX7_isImage_25 : decode cX7_isImage 25 = .ok (.iconst 1, 1) := dk_4 (dk_at dksX7_isImage_1 1 rfl rfl)
theorem dX7_isImage_26 : decode cX7_isImage 26 = .ok (.iadd, 1) := dk_96 (dk_at dksX7_isImage_1 2 rfl rfl)
theorem dX7_isImage_27 : decode cX7_isImage 27 = .ok (.if_icmp .ne 65, 3) := dk_160 0 65 (dk_at dksX7_isImage_1 3 rfl rfl)
theorem dX7_isImage_30 : decode cX7_isImage 30 = .ok (.aload_n 0, 1) := dk_42 (dk_at dksX7_isImage_1 6 rfl rfl)
theorem dX7_isImage_31 : decode cX7_isImage 31 = .ok (.getfield 7, 3) := dk_180 0 7 (dk_at dksX7_isImage_1 7 rfl rfl)
theorem dX7_isImage_34 : decode cX7_isImage 34 = .ok (.iload_n 1, 1) := dk_27 (dk_at dksX7_isImage_1 10 rfl rfl)
theorem dX7_isImage_35 : decode cX7_isImage 35 = .ok (.iconst 1, 1) := dk_4 (dk_at dksX7_isImage_1 11 rfl rfl)
theorem dX7_isImage_36 : decode cX7_isImage 36 = .ok (.isub, 1) := dk_100 (dk_at dksX7_isImage_1 12 rfl rfl)
theorem dX7_isImage_37 : decode cX7_isImage 37 = .ok (.iaload, 1) := dk_46 (dk_at dksX7_isImage_1 13 rfl rfl)
theorem dX7_isImage_38 : decode cX7_isImage 38 = .ok (.aload_n 0, 1) := dk_42 (dk_at dksX7_isImage_1 14 rfl rfl)
theorem dX7_isImage_39 : decode cX7_isImage 39 = .ok (.getfield 7, 3) := dk_180 0 7 (dk_at dksX7_isImage_1 15 rfl rfl)
theorem dX7_isImage_42 : decode cX7_isImage 42 = .ok (.iload_n 1, 1) := dk_27 (dk_at dksX7_isImage_1 18 rfl rfl)
theorem dX7_isImage_43 : decode cX7_isImage 43 = .ok (.iconst 1, 1) := dk_4 (dk_at dksX7_isImage_1 19 rfl rfl)
theorem dX7_isImage_44 : decode cX7_isImage 44 = .ok (.isub, 1) := dk_100 (dk_at dksX7_isImage_1 20 rfl rfl)
theorem dX7_isImage_45 : decode cX7_isImage 45 = .ok (.invokestatic 777, 3) := dk_184 3 9 (dk_at dksX7_isImage_1 21 rfl rfl)
theorem dX7_isImage_48 : decode cX7_isImage 48 = .ok (.if_icmp .ne 44, 3) := dk_160 0 44 (dk_at dksX7_isImage_2 0 rfl rfl)
theorem dX7_isImage_51 : decode cX7_isImage 51 = .ok (.sipush 256, 3) := dk_17 1 0 (dk_at dksX7_isImage_2 3 rfl rfl)
theorem dX7_isImage_54 : decode cX7_isImage 54 = .ok (.aload_n 0, 1) := dk_42 (dk_at dksX7_isImage_2 6 rfl rfl)
theorem dX7_isImage_55 : decode cX7_isImage 55 = .ok (.getfield 7, 3) := dk_180 0 7 (dk_at dksX7_isImage_2 7 rfl rfl)
theorem dX7_isImage_58 : decode cX7_isImage 58 = .ok (.iconst 0, 1) := dk_3 (dk_at dksX7_isImage_2 10 rfl rfl)
theorem dX7_isImage_59 : decode cX7_isImage 59 = .ok (.iaload, 1) := dk_46 (dk_at dksX7_isImage_2 11 rfl rfl)
theorem dX7_isImage_60 : decode cX7_isImage 60 = .ok (.imul, 1) := dk_104 (dk_at dksX7_isImage_2 12 rfl rfl)
theorem dX7_isImage_61 : decode cX7_isImage 61 = .ok (.aload_n 0, 1) := dk_42 (dk_at dksX7_isImage_2 13 rfl rfl)
theorem dX7_isImage_62 : decode cX7_isImage 62 = .ok (.getfield 7, 3) := dk_180 0 7 (dk_at dksX7_isImage_2 14 rfl rfl)
theorem dX7_isImage_65 : decode cX7_isImage 65 = .ok (.iconst 1, 1) := dk_4 (dk_at dksX7_isImage_2 17 rfl rfl)
theorem dX7_isImage_66 : decode cX7_isImage 66 = .ok (.iaload, 1) := dk_46 (dk_at dksX7_isImage_2 18 rfl rfl)
theorem dX7_isImage_67 : decode cX7_isImage 67 = .ok (.iadd, 1) := dk_96 (dk_at dksX7_isImage_2 19 rfl rfl)
theorem dX7_isImage_68 : decode cX7_isImage 68 = .ok (.sipush 999, 3) := dk_17 3 231 (dk_at dksX7_isImage_2 20 rfl rfl)
theorem dX7_isImage_71 : decode cX7_isImage 71 = .ok (.if_icmp .gt 21, 3) := dk_163 0 21 (dk_at dksX7_isImage_3 0 rfl rfl)
theorem dX7_isImage_74 : decode cX7_isImage 74 = .ok (.aload_n 0, 1) := dk_42 (dk_at dksX7_isImage_3 3 rfl rfl)
theorem dX7_isImage_75 : decode cX7_isImage 75 = .ok (.getfield 7, 3) := dk_180 0 7 (dk_at dksX7_isImage_3 4 rfl rfl)
theorem dX7_isImage_78 : decode cX7_isImage 78 = .ok (.iconst 2, 1) := dk_5 (dk_at dksX7_isImage_3 7 rfl rfl)
theorem dX7_isImage_79 : decode cX7_isImage 79 = .ok (.iaload, 1) := dk_46 (dk_at dksX7_isImage_3 8 rfl rfl)
theorem dX7_isImage_80 : decode cX7_isImage 80 = .ok (.iconst 1, 1) := dk_4 (dk_at dksX7_isImage_3 9 rfl rfl)
theorem dX7_isImage_81 : decode cX7_isImage 81 = .ok (.if_icmp .gt 11, 3) := dk_163 0 11 (dk_at dksX7_isImage_3 10 rfl rfl)
theorem dX7_isImage_84 : decode cX7_isImage 84 = .ok (.aload_n 0, 1) := dk_42 (dk_at dksX7_isImage_3 13 rfl rfl)
theorem dX7_isImage_85 : decode cX7_isImage 85 = .ok (.iconst 3, 1) := dk_6 (dk_at dksX7_isImage_3 14 rfl rfl)
theorem dX7_isImage_86 : decode cX7_isImage 86 = .ok (.invokevirtual 654, 3) := dk_182 2 142 (dk_at dksX7_isImage_3 15 rfl rfl)
theorem dX7_isImage_89 : decode cX7_isImage 89 = .ok (.ifCond .ne 5, 3) := dk_154 0 5 (dk_at dksX7_isImage_3 18 rfl rfl)
theorem dX7_isImage_92 : decode cX7_isImage 92 = .ok (.iconst 0, 1) := dk_3 (dk_at dksX7_isImage_3 21 rfl rfl)
theorem dX7_isImage_93 : decode cX7_isImage 93 = .ok (.ireturn, 1) := dk_172 (dk_at dksX7_isImage_3 22 rfl rfl)
theorem dX7_isImage_94 : decode cX7_isImage 94 = .ok (.iconst 0, 1) := dk_3 (dk_at dksX7_isImage_3 23 rfl rfl)
theorem dX7_isImage_95 : decode cX7_isImage 95 = .ok (.istore_n 3, 1) := dk_62 (dk_at dksX7_isImage_4 0 rfl rfl)
theorem dX7_isImage_96 : decode cX7_isImage 96 = .ok (.iload_n 3, 1) := dk_29 (dk_at dksX7_isImage_4 1 rfl rfl)
theorem dX7_isImage_97 : decode cX7_isImage 97 = .ok (.aload_n 0, 1) := dk_42 (dk_at dksX7_isImage_4 2 rfl rfl)
theorem dX7_isImage_98 : decode cX7_isImage 98 = .ok (.invokevirtual 436, 3) := dk_182 1 180 (dk_at dksX7_isImage_4 3 rfl rfl)
theorem dX7_isImage_101 : decode cX7_isImage 101 = .ok (.if_icmp .ge 44, 3) := dk_162 0 44 (dk_at dksX7_isImage_4 6 rfl rfl)
theorem dX7_isImage_104 : decode cX7_isImage 104 = .ok (.sipush 256, 3) := dk_17 1 0 (dk_at dksX7_isImage_4 9 rfl rfl)
theorem dX7_isImage_107 : decode cX7_isImage 107 = .ok (.aload_n 0, 1) := dk_42 (dk_at dksX7_isImage_4 12 rfl rfl)
theorem dX7_isImage_108 : decode cX7_isImage 108 = .ok (.getfield 7, 3) := dk_180 0 7 (dk_at dksX7_isImage_4 13 rfl rfl)
theorem dX7_isImage_111 : decode cX7_isImage 111 = .ok (.iload_n 2, 1) := dk_28 (dk_at dksX7_isImage_4 16 rfl rfl)
theorem dX7_isImage_112 : decode cX7_isImage 112 = .ok (.iconst 2, 1) := dk_5 (dk_at dksX7_isImage_4 17 rfl rfl)
theorem dX7_isImage_113 : decode cX7_isImage 113 = .ok (.iload_n 3, 1) := dk_29 (dk_at dksX7_isImage_4 18 rfl rfl)
theorem dX7_isImage_114 : decode cX7_isImage 114 = .ok (.imul, 1) := dk_104 (dk_at dksX7_isImage_4 19 rfl rfl)
theorem dX7_isImage_115 : decode cX7_isImage 115 = .ok (.iadd, 1) := dk_96 (dk_at dksX7_isImage_4 20 rfl rfl)
theorem dX7_isImage_116 : decode cX7_isImage 116 = .ok (.iaload, 1) := dk_46 (dk_at dksX7_isImage_4 21 rfl rfl)
theorem dX7_isImage_117 : decode cX7_isImage 117 = .ok (.imul, 1) := dk_104 (dk_at dksX7_isImage_4 22 rfl rfl)
theorem dX7_isImage_118 : decode cX7_isImage 118 = .ok (.aload_n 0, 1) := dk_42 (dk_at dksX7_isImage_4 23 rfl rfl)
theorem dX7_isImage_119 : decode cX7_isImage 119 = .ok (.getfield 7, 3) := dk_180 0 7 (dk_at dksX7_isImage_5 0 rfl rfl)
theorem dX7_isImage_122 : decode cX7_isImage 122 = .ok (.iload_n 2, 1) := dk_28 (dk_at dksX7_isImage_5 3 rfl rfl)
theorem dX7_isImage_123 : decode cX7_isImage 123 = .ok (.iconst 2, 1) := dk_5 (dk_at dksX7_isImage_5 4 rfl rfl)
theorem dX7_isImage_124 : decode cX7_isImage 124 = .ok (.iload_n 3, 1) := dk_29 (dk_at dksX7_isImage_5 5 rfl rfl)
theorem dX7_isImage_125 : decode cX7_isImage 125 = .ok (.imul, 1) := dk_104 (dk_at dksX7_isImage_5 6 rfl rfl)
theorem dX7_isImage_126 : decode cX7_isImage 126 = .ok (.iadd, 1) := dk_96 (dk_at dksX7_isImage_5 7 rfl rfl)
theorem dX7_isImage_127 : decode cX7_isImage 127 = .ok (.iconst 1, 1) := dk_4 (dk_at dksX7_isImage_5 8 rfl rfl)
theorem dX7_isImage_128 : decode cX7_isImage 128 = .ok (.iadd, 1) := dk_96 (dk_at dksX7_isImage_5 9 rfl rfl)
theorem dX7_isImage_129 : decode cX7_isImage 129 = .ok (.iaload, 1) := dk_46 (dk_at dksX7_isImage_5 10 rfl rfl)
theorem dX7_isImage_130 : decode cX7_isImage 130 = .ok (.iadd, 1) := dk_96 (dk_at dksX7_isImage_5 11 rfl rfl)
theorem dX7_isImage_131 : decode cX7_isImage 131 = .ok (.sipush 999, 3) := dk_17 3 231 (dk_at dksX7_isImage_5 12 rfl rfl)
theorem dX7_isImage_134 : decode cX7_isImage 134 = .ok (.if_icmp .le 5, 3) := dk_164 0 5 (dk_at dksX7_isImage_5 15 rfl rfl)
theorem dX7_isImage_137 : decode cX7_isImage 137 = .ok (.iconst 0, 1) := dk_3 (dk_at dksX7_isImage_5 18 rfl rfl)
theorem dX7_isImage_138 : decode cX7_isImage 138 = .ok (.ireturn, 1) := dk_172 (dk_at dksX7_isImage_5 19 rfl rfl)
theorem dX7_isImage_139 : decode cX7_isImage 139 = .ok (.iinc 3 1, 3) := dk_132 3 1 (dk_at dksX7_isImage_5 20 rfl rfl)
theorem dX7_isImage_142 : decode cX7_isImage 142 = .ok (.goto (-46), 3) := dk_167 255 210 (dk_at dksX7_isImage_6 0 rfl rfl)
theorem dX7_isImage_145 : decode cX7_isImage 145 = .ok (.iconst 1, 1) := dk_4 (dk_at dksX7_isImage_6 3 rfl rfl)
theorem dX7_isImage_146 : decode cX7_isImage 146 = .ok (.ireturn, 1) := dk_172 (dk_at dksX7_isImage_6 4 rfl rfl)
abbrev cX7_status : ByteArray := prog_25_method_151_code
def yX7_status : MethodName := ⟨RX7, "status", "(I)I"⟩
def dkwX7_status_0 : List UInt8 := [27, 133, 9, 20, 2, 83, 184, 1, 65, 153, 0, 12, 42, 180, 0, 17, 27, 46, 167, 0, 4, 2, 172]
abbrev dktX7_status_0 : List UInt8 := dkwX7_status_0 ++ []
theorem dksX7_status_0 : cX7_status.data.toList.drop 0 = dktX7_status_0 := by decide +kernel
theorem dX7_status_0 : decode cX7_status 0 = .ok (.iload_n 1, 1) := dk_27 (dk_at dksX7_status_0 0 rfl rfl)
theorem dX7_status_1 : decode cX7_status 1 = .ok (.i2l, 1) := dk_133 (dk_at dksX7_status_0 1 rfl rfl)
theorem dX7_status_2 : decode cX7_status 2 = .ok (.lconst 0, 1) := dk_9 (dk_at dksX7_status_0 2 rfl rfl)
theorem dX7_status_3 : decode cX7_status 3 = .ok (.ldc2_w 595, 3) := dk_20 2 83 (dk_at dksX7_status_0 3 rfl rfl)
theorem dX7_status_6 : decode cX7_status 6 = .ok (.invokestatic 321, 3) := dk_184 1 65 (dk_at dksX7_status_0 6 rfl rfl)
theorem dX7_status_9 : decode cX7_status 9 = .ok (.ifCond .eq 12, 3) := dk_153 0 12 (dk_at dksX7_status_0 9 rfl rfl)
theorem dX7_status_12 : decode cX7_status 12 = .ok (.aload_n 0, 1) := dk_42 (dk_at dksX7_status_0 12 rfl rfl)
theorem dX7_status_13 : decode cX7_status 13 = .ok (.getfield 17, 3) := dk_180 0 17 (dk_at dksX7_status_0 13 rfl rfl)
theorem dX7_status_16 : decode cX7_status 16 = .ok (.iload_n 1, 1) := dk_27 (dk_at dksX7_status_0 16 rfl rfl)
theorem dX7_status_17 : decode cX7_status 17 = .ok (.iaload, 1) := dk_46 (dk_at dksX7_status_0 17 rfl rfl)
theorem dX7_status_18 : decode cX7_status 18 = .ok (.goto 4, 3) := dk_167 0 4 (dk_at dksX7_status_0 18 rfl rfl)
theorem dX7_status_21 : decode cX7_status 21 = .ok (.iconst (-1), 1) := dk_2 (dk_at dksX7_status_0 21 rfl rfl)
theorem dX7_status_22 : decode cX7_status 22 = .ok (.ireturn, 1) := dk_172 (dk_at dksX7_status_0 22 rfl rfl)
