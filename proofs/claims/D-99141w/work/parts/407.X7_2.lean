set_option maxRecDepth 100000
abbrev cX7_at : ByteArray := prog_25_method_84_code
def yX7_at : MethodName := ⟨RX7, "at", "(II)I"⟩
def dkwX7_at_2 : List UInt8 := [182, 1, 199, 167, 0, 4, 2, 172]
abbrev dktX7_at_2 : List UInt8 := dkwX7_at_2 ++ []
def dkwX7_at_1 : List UInt8 := [153, 0, 30, 28, 133, 9, 42, 180, 0, 127, 8, 46, 4, 100, 133, 184, 1, 65, 153, 0, 12, 42, 27, 28]
abbrev dktX7_at_1 : List UInt8 := dkwX7_at_1 ++ dktX7_at_2
def dkwX7_at_0 : List UInt8 := [42, 180, 1, 168, 153, 0, 48, 27, 133, 9, 42, 180, 0, 127, 7, 46, 4, 100, 133, 184, 1, 65]
abbrev dktX7_at_0 : List UInt8 := dkwX7_at_0 ++ dktX7_at_1
theorem dksX7_at_0 : cX7_at.data.toList.drop 0 = dktX7_at_0 := by decide +kernel
theorem dksX7_at_1 : cX7_at.data.toList.drop 22 = dktX7_at_1 := dk_seg dksX7_at_0 22 rfl rfl
theorem dksX7_at_2 : cX7_at.data.toList.drop 46 = dktX7_at_2 := dk_seg dksX7_at_1 24 rfl rfl
theorem dX7_at_0 : decode cX7_at 0 = .ok (.aload_n 0, 1) := dk_42 (dk_at dksX7_at_0 0 rfl rfl)
theorem dX7_at_1 : decode cX7_at 1 = .ok (.getfield 424, 3) := dk_180 1 168 (dk_at dksX7_at_0 1 rfl rfl)
theorem dX7_at_4 : decode cX7_at 4 = .ok (.ifCond .eq 48, 3) := dk_153 0 48 (dk_at dksX7_at_0 4 rfl rfl)
theorem dX7_at_7 : decode cX7_at 7 = .ok (.iload_n 1, 1) := dk_27 (dk_at dksX7_at_0 7 rfl rfl)
theorem dX7_at_8 : decode cX7_at 8 = .ok (.i2l, 1) := dk_133 (dk_at dksX7_at_0 8 rfl rfl)
theorem dX7_at_9 : decode cX7_at 9 = .ok (.lconst 0, 1) := dk_9 (dk_at dksX7_at_0 9 rfl rfl)
theorem dX7_at_10 : decode cX7_at 10 = .ok (.aload_n 0, 1) := dk_42 (dk_at dksX7_at_0 10 rfl rfl)
theorem dX7_at_11 : decode cX7_at 11 = .ok (.getfield 127, 3) := dk_180 0 127 (dk_at dksX7_at_0 11 rfl rfl)
theorem dX7_at_14 : decode cX7_at 14 = .ok (.iconst 4, 1) := dk_7 (dk_at dksX7_at_0 14 rfl rfl)
theorem dX7_at_15 : decode cX7_at 15 = .ok (.iaload, 1) := dk_46 (dk_at dksX7_at_0 15 rfl rfl)
theorem dX7_at_16 : decode cX7_at 16 = .ok (.iconst 1, 1) := dk_4 (dk_at dksX7_at_0 16 rfl rfl)
theorem dX7_at_17 : decode cX7_at 17 = .ok (.isub, 1) := dk_100 (dk_at dksX7_at_0 17 rfl rfl)
theorem dX7_at_18 : decode cX7_at 18 = .ok (.i2l, 1) := dk_133 (dk_at dksX7_at_0 18 rfl rfl)
theorem dX7_at_19 : decode cX7_at 19 = .ok (.invokestatic 321, 3) := dk_184 1 65 (dk_at dksX7_at_0 19 rfl rfl)
theorem dX7_at_22 : decode cX7_at 22 = .ok (.ifCond .eq 30, 3) := dk_153 0 30 (dk_at dksX7_at_1 0 rfl rfl)
theorem dX7_at_25 : decode cX7_at 25 = .ok (.iload_n 2, 1) := dk_28 (dk_at dksX7_at_1 3 rfl rfl)
theorem dX7_at_26 : decode cX7_at 26 = .ok (.i2l, 1) := dk_133 (dk_at dksX7_at_1 4 rfl rfl)
theorem dX7_at_27 : decode cX7_at 27 = .ok (.lconst 0, 1) := dk_9 (dk_at dksX7_at_1 5 rfl rfl)
theorem dX7_at_28 : decode cX7_at 28 = .ok (.aload_n 0, 1) := dk_42 (dk_at dksX7_at_1 6 rfl rfl)
theorem dX7_at_29 : decode cX7_at 29 = .ok (.getfield 127, 3) := dk_180 0 127 (dk_at dksX7_at_1 7 rfl rfl)
theorem dX7_at_32 : decode cX7_at 32 = .ok (.iconst 5, 1) := dk_8 (dk_at dksX7_at_1 10 rfl rfl)
theorem dX7_at_33 : decode cX7_at 33 = .ok (.iaload, 1) := dk_46 (dk_at dksX7_at_1 11 rfl rfl)
theorem dX7_at_34 : decode cX7_at 34 = .ok (.iconst 1, 1) := dk_4 (dk_at dksX7_at_1 12 rfl rfl)
theorem dX7_at_35 : decode cX7_at 35 = .ok (.isub, 1) := dk_100 (dk_at dksX7_at_1 13 rfl rfl)
theorem dX7_at_36 : decode cX7_at 36 = .ok (.i2l, 1) := dk_133 (dk_at dksX7_at_1 14 rfl rfl)
theorem dX7_at_37 : decode cX7_at 37 = .ok (.invokestatic 321, 3) := dk_184 1 65 (dk_at dksX7_at_1 15 rfl rfl)
theorem dX7_at_40 : decode cX7_at 40 = .ok (.ifCond .eq 12, 3) := dk_153 0 12 (dk_at dksX7_at_1 18 rfl rfl)
theorem dX7_at_43 : decode cX7_at 43 = .ok (.aload_n 0, 1) := dk_42 (dk_at dksX7_at_1 21 rfl rfl)
theorem dX7_at_44 : decode cX7_at 44 = .ok (.iload_n 1, 1) := dk_27 (dk_at dksX7_at_1 22 rfl rfl)
theorem dX7_at_45 : decode cX7_at 45 = .ok (.iload_n 2, 1) := dk_28 (dk_at dksX7_at_1 23 rfl rfl)
theorem dX7_at_46 : decode cX7_at 46 = .ok (.invokevirtual 455, 3) := dk_182 1 199 (dk_at dksX7_at_2 0 rfl rfl)
theorem dX7_at_49 : decode cX7_at 49 = .ok (.goto 4, 3) := dk_167 0 4 (dk_at dksX7_at_2 3 rfl rfl)
theorem dX7_at_52 : decode cX7_at 52 = .ok (.iconst (-1), 1) := dk_2 (dk_at dksX7_at_2 6 rfl rfl)
theorem dX7_at_53 : decode cX7_at 53 = .ok (.ireturn, 1) := dk_172 (dk_at dksX7_at_2 7 rfl rfl)
abbrev cX7_option : ByteArray := prog_25_method_85_code
def yX7_option : MethodName := ⟨RX7, "option", "(II)I"⟩
def dkwX7_option_7 : List UInt8 := [172, 21, 6, 172]
abbrev dktX7_option_7 : List UInt8 := dkwX7_option_7 ++ []
def dkwX7_option_6 : List UInt8 := [42, 180, 2, 9, 172, 29, 172, 21, 4, 172, 21, 5, 2, 160, 0, 9, 17, 0, 255, 167, 0, 5, 21, 5]
abbrev dktX7_option_6 : List UInt8 := dkwX7_option_6 ++ dktX7_option_7
def dkwX7_option_5 : List UInt8 := [170, 0, 0, 0, 0, 55, 0, 0, 0, 0, 0, 0, 0, 3, 0, 0, 0, 30, 0, 0, 0, 35, 0, 0, 0, 37, 0, 0, 0, 40]
abbrev dktX7_option_5 : List UInt8 := dkwX7_option_5 ++ dktX7_option_6
def dkwX7_option_4 : List UInt8 := [54, 6, 42, 7, 182, 1, 247, 28]
abbrev dktX7_option_4 : List UInt8 := dkwX7_option_4 ++ dktX7_option_5
def dkwX7_option_3 : List UInt8 := [180, 2, 12, 182, 1, 240, 42, 42, 180, 0, 154, 4, 46, 182, 2, 41, 153, 0, 7, 4, 167, 0, 4, 3]
abbrev dktX7_option_3 : List UInt8 := dkwX7_option_3 ++ dktX7_option_4
def dkwX7_option_2 : List UInt8 := [180, 0, 127, 7, 46, 108, 54, 4, 42, 29, 21, 4, 182, 1, 199, 54, 5, 42, 7, 42, 180, 2, 9, 42]
abbrev dktX7_option_2 : List UInt8 := dkwX7_option_2 ++ dktX7_option_3
def dkwX7_option_1 : List UInt8 := [160, 0, 5, 2, 172, 42, 180, 2, 12, 42, 180, 0, 127, 7, 46, 112, 62, 42, 180, 2, 12, 42]
abbrev dktX7_option_1 : List UInt8 := dkwX7_option_1 ++ dktX7_option_2
def dkwX7_option_0 : List UInt8 := [28, 133, 9, 20, 2, 93, 184, 1, 65, 154, 0, 5, 2, 172, 42, 27, 182, 2, 95, 42, 180, 2, 3, 2]
abbrev dktX7_option_0 : List UInt8 := dkwX7_option_0 ++ dktX7_option_1
theorem dksX7_option_0 : cX7_option.data.toList.drop 0 = dktX7_option_0 := by decide +kernel
theorem dksX7_option_1 : cX7_option.data.toList.drop 24 = dktX7_option_1 := dk_seg dksX7_option_0 24 rfl rfl
theorem dksX7_option_2 : cX7_option.data.toList.drop 46 = dktX7_option_2 := dk_seg dksX7_option_1 22 rfl rfl
theorem dksX7_option_3 : cX7_option.data.toList.drop 70 = dktX7_option_3 := dk_seg dksX7_option_2 24 rfl rfl
theorem dksX7_option_4 : cX7_option.data.toList.drop 94 = dktX7_option_4 := dk_seg dksX7_option_3 24 rfl rfl
theorem dksX7_option_5 : cX7_option.data.toList.drop 102 = dktX7_option_5 := dk_seg dksX7_option_4 8 rfl rfl
theorem dksX7_option_6 : cX7_option.data.toList.drop 132 = dktX7_option_6 := dk_seg dksX7_option_5 30 rfl rfl
theorem dksX7_option_7 : cX7_option.data.toList.drop 156 = dktX7_option_7 := dk_seg dksX7_option_6 24 rfl rfl
theorem dX7_option_0 : decode cX7_option 0 = .ok (.iload_n 2, 1) := dk_28 (dk_at dksX7_option_0 0 rfl rfl)
theorem dX7_option_1 : decode cX7_option 1 = .ok (.i2l, 1) := dk_133 (dk_at dksX7_option_0 1 rfl rfl)
theorem dX7_option_2 : decode cX7_option 2 = .ok (.lconst 0, 1) := dk_9 (dk_at dksX7_option_0 2 rfl rfl)
theorem dX7_option_3 : decode cX7_option 3 = .ok (.ldc2_w 605, 3) := dk_20 2 93 (dk_at dksX7_option_0 3 rfl rfl)
theorem dX7_option_6 : decode cX7_option 6 = .ok (.invokestatic 321, 3) := dk_184 1 65 (dk_at dksX7_option_0 6 rfl rfl)
theorem dX7_option_9 : decode cX7_option 9 = .ok (.ifCond .ne 5, 3) := dk_154 0 5 (dk_at dksX7_option_0 9 rfl rfl)
theorem dX7_option_12 : decode cX7_option 12 = .ok (.iconst (-1), 1) := dk_2 (dk_at dksX7_option_0 12 rfl rfl)
theorem dX7_option_13 : decode cX7_option 13 = .ok (.ireturn, 1) := dk_172 (dk_at dksX7_option_0 13 rfl rfl)
theorem dX7_option_14 : decode cX7_option 14 = .ok (.aload_n 0, 1) := dk_42 (dk_at dksX7_option_0 14 rfl rfl)
theorem dX7_option_15 : decode cX7_option 15 = .ok (.iload_n 1, 1) := dk_27 (dk_at dksX7_option_0 15 rfl rfl)
theorem dX7_option_16 : decode cX7_option 16 = .ok (.invokevirtual 607, 3) := dk_182 2 95 (dk_at dksX7_option_0 16 rfl rfl)
theorem dX7_option_19 : decode cX7_option 19 = .ok (.aload_n 0, 1) := dk_42 (dk_at dksX7_option_0 19 rfl rfl)
theorem dX7_option_20 : decode cX7_option 20 = .ok (.getfield 515, 3) := dk_180 2 3 (dk_at dksX7_option_0 20 rfl rfl)
theorem dX7_option_23 : decode cX7_option 23 = .ok (.iconst (-1), 1) := dk_2 (dk_at dksX7_option_0 23 rfl rfl)
theorem dX7_option_24 : decode cX7_option 24 = .ok (.if_icmp .ne 5, 3) := dk_160 0 5 (dk_at dksX7_option_1 0 rfl rfl)
theorem dX7_option_27 : decode cX7_option 27 = .ok (.iconst (-1), 1) := dk_2 (dk_at dksX7_option_1 3 rfl rfl)
theorem dX7_option_28 : decode cX7_option 28 = .ok (.ireturn, 1) := dk_172 (dk_at dksX7_option_1 4 rfl rfl)
theorem dX7_option_29 : decode cX7_option 29 = .ok (.aload_n 0, 1) := dk_42 (dk_at dksX7_option_1 5 rfl rfl)
theorem dX7_option_30 : decode cX7_option 30 = .ok (.getfield 524, 3) := dk_180 2 12 (dk_at dksX7_option_1 6 rfl rfl)
theorem dX7_option_33 : decode cX7_option 33 = .ok (.aload_n 0, 1) := dk_42 (dk_at dksX7_option_1 9 rfl rfl)
theorem dX7_option_34 : decode cX7_option 34 = .ok (.getfield 127, 3) := dk_180 0 127 (dk_at dksX7_option_1 10 rfl rfl)
theorem dX7_option_37 : decode cX7_option 37 = .ok (.iconst 4, 1) := dk_7 (dk_at dksX7_option_1 13 rfl rfl)
theorem dX7_option_38 : decode cX7_option 38 = .ok (.iaload, 1) := dk_46 (dk_at dksX7_option_1 14 rfl rfl)
theorem dX7_option_39 : decode cX7_option 39 = .ok (.irem, 1) := dk_112 (dk_at dksX7_option_1 15 rfl rfl)
theorem dX7_option_40 : decode cX7_option 40 = .ok (.istore_n 3, 1) := dk_62 (dk_at dksX7_option_1 16 rfl rfl)
theorem dX7_option_41 : decode cX7_option 41 = .ok (.aload_n 0, 1) := dk_42 (dk_at dksX7_option_1 17 rfl rfl)
theorem dX7_option_42 : decode cX7_option 42 = .ok (.getfield 524, 3) := dk_180 2 12 (dk_at dksX7_option_1 18 rfl rfl)
theorem dX7_option_45 : decode cX7_option 45 = .ok (.aload_n 0, 1) := dk_42 (dk_at dksX7_option_1 21 rfl rfl)
theorem dX7_option_46 : decode cX7_option 46 = .ok (.getfield 127, 3) := dk_180 0 127 (dk_at dksX7_option_2 0 rfl rfl)
theorem dX7_option_49 : decode cX7_option 49 = .ok (.iconst 4, 1) := dk_7 (dk_at dksX7_option_2 3 rfl rfl)
theorem dX7_option_50 : decode cX7_option 50 = .ok (.iaload, 1) := dk_46 (dk_at dksX7_option_2 4 rfl rfl)
theorem dX7_option_51 : decode cX7_option 51 = .ok (.idiv, 1) := dk_108 (dk_at dksX7_option_2 5 rfl rfl)
theorem dX7_option_52 : decode cX7_option 52 = .ok (.istore 4, 2) := dk_54 4 (dk_at dksX7_option_2 6 rfl rfl)
theorem dX7_option_54 : decode cX7_option 54 = .ok (.aload_n 0, 1) := dk_42 (dk_at dksX7_option_2 8 rfl rfl)
theorem dX7_option_55 : decode cX7_option 55 = .ok (.iload_n 3, 1) := dk_29 (dk_at dksX7_option_2 9 rfl rfl)
theorem dX7_option_56 : decode cX7_option 56 = .ok (.iload 4, 2) := dk_21 4 (dk_at dksX7_option_2 10 rfl rfl)
theorem dX7_option_58 : decode cX7_option 58 = .ok (.invokevirtual 455, 3) := dk_182 1 199 (dk_at dksX7_option_2 12 rfl rfl)
theorem dX7_option_61 : decode cX7_option 61 = .ok (.istore 5, 2) := dk_54 5 (dk_at dksX7_option_2 15 rfl rfl)
theorem dX7_option_63 : decode cX7_option 63 = .ok (.aload_n 0, 1) := dk_42 (dk_at dksX7_option_2 17 rfl rfl)
theorem dX7_option_64 : decode cX7_option 64 = .ok (.iconst 4, 1) := dk_7 (dk_at dksX7_option_2 18 rfl rfl)
theorem dX7_option_65 : decode cX7_option 65 = .ok (.aload_n 0, 1) := dk_42 (dk_at dksX7_option_2 19 rfl rfl)
theorem dX7_option_66 : decode cX7_option 66 = .ok (.getfield 521, 3) := dk_180 2 9 (dk_at dksX7_option_2 20 rfl rfl)
theorem dX7_option_69 : decode cX7_option 69 = .ok (.aload_n 0, 1) := dk_42 (dk_at dksX7_option_2 23 rfl rfl)
theorem dX7_option_70 : decode cX7_option 70 = .ok (.getfield 524, 3) := dk_180 2 12 (dk_at dksX7_option_3 0 rfl rfl)
theorem dX7_option_73 : decode cX7_option 73 = .ok (.invokevirtual 496, 3) := dk_182 1 240 (dk_at dksX7_option_3 3 rfl rfl)
theorem dX7_option_76 : decode cX7_option 76 = .ok (.aload_n 0, 1) := dk_42 (dk_at dksX7_option_3 6 rfl rfl)
theorem dX7_option_77 : decode cX7_option 77 = .ok (.aload_n 0, 1) := dk_42 (dk_at dksX7_option_3 7 rfl rfl)
theorem dX7_option_78 : decode cX7_option 78 = .ok (.getfield 154, 3) := dk_180 0 154 (dk_at dksX7_option_3 8 rfl rfl)
theorem dX7_option_81 : decode cX7_option 81 = .ok (.iconst 1, 1) := dk_4 (dk_at dksX7_option_3 11 rfl rfl)
theorem dX7_option_82 : decode cX7_option 82 = .ok (.iaload, 1) := dk_46 (dk_at dksX7_option_3 12 rfl rfl)
theorem dX7_option_83 : decode cX7_option 83 = .ok (.invokevirtual 553, 3) := dk_182 2 41 (dk_at dksX7_option_3 13 rfl rfl)
theorem dX7_option_86 : decode cX7_option 86 = .ok (.ifCond .eq 7, 3) := dk_153 0 7 (dk_at dksX7_option_3 16 rfl rfl)
theorem dX7_option_89 : decode cX7_option 89 = .ok (.iconst 1, 1) := dk_4 (dk_at dksX7_option_3 19 rfl rfl)
theorem dX7_option_90 : decode cX7_option 90 = .ok (.goto 4, 3) := dk_167 0 4 (dk_at dksX7_option_3 20 rfl rfl)
theorem dX7_option_93 : decode cX7_option 93 = .ok (.iconst 0, 1) := dk_3 (dk_at dksX7_option_3 23 rfl rfl)
theorem dX7_option_94 : decode cX7_option 94 = .ok (.istore 6, 2) := dk_54 6 (dk_at dksX7_option_4 0 rfl rfl)
theorem dX7_option_96 : decode cX7_option 96 = .ok (.aload_n 0, 1) := dk_42 (dk_at dksX7_option_4 2 rfl rfl)
theorem dX7_option_97 : decode cX7_option 97 = .ok (.iconst 4, 1) := dk_7 (dk_at dksX7_option_4 3 rfl rfl)
theorem dX7_option_98 : decode cX7_option 98 = .ok (.invokevirtual 503, 3) := dk_182 1 247 (dk_at dksX7_option_4 4 rfl rfl)
theorem dX7_option_101 : decode cX7_option 101 = .ok (.iload_n 2, 1) := dk_28 (dk_at dksX7_option_4 7 rfl rfl)
theorem dX7_option_102 : decode cX7_option 102 = .ok (.tableswitch 55 0 3 #[30, 35, 37, 40], 30) := by decide +kernel
theorem dX7_option_132 : decode cX7_option 132 = .ok (.aload_n 0, 1) := dk_42 (dk_at dksX7_option_6 0 rfl rfl)
theorem dX7_option_133 : decode cX7_option 133 = .ok (.getfield 521, 3) := dk_180 2 9 (dk_at dksX7_option_6 1 rfl rfl)
theorem dX7_option_136 : decode cX7_option 136 = .ok (.ireturn, 1) := dk_172 (dk_at dksX7_option_6 4 rfl rfl)
theorem dX7_option_137 : decode cX7_option 137 = .ok (.iload_n 3, 1) := dk_29 (dk_at dksX7_option_6 5 rfl rfl)
theorem dX7_option_138 : decode cX7_option 138 = .ok (.ireturn, 1) := dk_172 (dk_at dksX7_option_6 6 rfl rfl)
theorem dX7_option_139 : decode cX7_option 139 = .ok (.iload 4, 2) := dk_21 4 (dk_at dksX7_option_6 7 rfl rfl)
theorem dX7_option_141 : decode cX7_option 141 = .ok (.ireturn, 1) := dk_172 (dk_at dksX7_option_6 9 rfl rfl)
theorem dX7_option_142 : decode cX7_option 142 = .ok (.iload 5, 2) := dk_21 5 (dk_at dksX7_option_6 10 rfl rfl)
theorem dX7_option_144 : decode cX7_option 144 = .ok (.iconst (-1), 1) := dk_2 (dk_at dksX7_option_6 12 rfl rfl)
theorem dX7_option_145 : decode cX7_option 145 = .ok (.if_icmp .ne 9, 3) := dk_160 0 9 (dk_at dksX7_option_6 13 rfl rfl)
theorem dX7_option_148 : decode cX7_option 148 = .ok (.sipush 255, 3) := dk_17 0 255 (dk_at dksX7_option_6 16 rfl rfl)
theorem dX7_option_151 : decode cX7_option 151 = .ok (.goto 5, 3) := dk_167 0 5 (dk_at dksX7_option_6 19 rfl rfl)
theorem dX7_option_154 : decode cX7_option 154 = .ok (.iload 5, 2) := dk_21 5 (dk_at dksX7_option_6 22 rfl rfl)
theorem dX7_option_156 : decode cX7_option 156 = .ok (.ireturn, 1) := dk_172 (dk_at dksX7_option_7 0 rfl rfl)
theorem dX7_option_157 : decode cX7_option 157 = .ok (.iload 6, 2) := dk_21 6 (dk_at dksX7_option_7 1 rfl rfl)
theorem dX7_option_159 : decode cX7_option 159 = .ok (.ireturn, 1) := dk_172 (dk_at dksX7_option_7 3 rfl rfl)
abbrev cX7_chooses : ByteArray := prog_25_method_63_code
def yX7_chooses : MethodName := ⟨RX7, "chooses", "(I)V"⟩
def dkwX7_chooses_5 : List UInt8 := [132, 3, 1, 167, 255, 160, 177]
abbrev dktX7_chooses_5 : List UInt8 := dkwX7_chooses_5 ++ []
def dkwX7_chooses_4 : List UInt8 := [181, 2, 3, 42, 29, 181, 2, 9, 42, 21, 4, 181, 2, 12, 132, 2, 1, 132, 4, 1, 167, 255, 185]
abbrev dktX7_chooses_4 : List UInt8 := dkwX7_chooses_4 ++ dktX7_chooses_5
def dkwX7_chooses_3 : List UInt8 := [160, 0, 40, 42, 29, 21, 4, 182, 1, 218, 154, 0, 6, 167, 0, 27, 28, 27, 160, 0, 19, 42, 27]
abbrev dktX7_chooses_3 : List UInt8 := dkwX7_chooses_3 ++ dktX7_chooses_4
def dkwX7_chooses_2 : List UInt8 := [162, 0, 68, 42, 180, 2, 3, 2, 160, 0, 60, 42, 29, 182, 1, 212, 42, 180, 0, 154, 4, 46]
abbrev dktX7_chooses_2 : List UInt8 := dkwX7_chooses_2 ++ dktX7_chooses_3
def dkwX7_chooses_1 : List UInt8 := [182, 1, 177, 162, 0, 94, 42, 180, 2, 3, 2, 160, 0, 86, 3, 54, 4, 21, 4, 42, 182, 1, 215]
abbrev dktX7_chooses_1 : List UInt8 := dkwX7_chooses_1 ++ dktX7_chooses_2
def dkwX7_chooses_0 : List UInt8 := [42, 2, 181, 2, 3, 27, 155, 0, 10, 42, 182, 1, 228, 153, 0, 4, 177, 3, 61, 3, 62, 29, 42]
abbrev dktX7_chooses_0 : List UInt8 := dkwX7_chooses_0 ++ dktX7_chooses_1
theorem dksX7_chooses_0 : cX7_chooses.data.toList.drop 0 = dktX7_chooses_0 := by decide +kernel
theorem dksX7_chooses_1 : cX7_chooses.data.toList.drop 23 = dktX7_chooses_1 := dk_seg dksX7_chooses_0 23 rfl rfl
theorem dksX7_chooses_2 : cX7_chooses.data.toList.drop 46 = dktX7_chooses_2 := dk_seg dksX7_chooses_1 23 rfl rfl
theorem dksX7_chooses_3 : cX7_chooses.data.toList.drop 68 = dktX7_chooses_3 := dk_seg dksX7_chooses_2 22 rfl rfl
theorem dksX7_chooses_4 : cX7_chooses.data.toList.drop 91 = dktX7_chooses_4 := dk_seg dksX7_chooses_3 23 rfl rfl
theorem dksX7_chooses_5 : cX7_chooses.data.toList.drop 114 = dktX7_chooses_5 := dk_seg dksX7_chooses_4 23 rfl rfl
theorem dX7_chooses_0 : decode cX7_chooses 0 = .ok (.aload_n 0, 1) := dk_42 (dk_at dksX7_chooses_0 0 rfl rfl)
theorem dX7_chooses_1 : decode cX7_chooses 1 = .ok (.iconst (-1), 1) := dk_2 (dk_at dksX7_chooses_0 1 rfl rfl)
theorem dX7_chooses_2 : decode cX7_chooses 2 = .ok (.putfield 515, 3) := dk_181 2 3 (dk_at dksX7_chooses_0 2 rfl rfl)
theorem dX7_chooses_5 : decode cX7_chooses 5 = .ok (.iload_n 1, 1) := dk_27 (dk_at dksX7_chooses_0 5 rfl rfl)
theorem dX7_chooses_6 : decode cX7_chooses 6 = .ok (.ifCond .lt 10, 3) := dk_155 0 10 (dk_at dksX7_chooses_0 6 rfl rfl)
theorem dX7_chooses_9 : decode cX7_chooses 9 = .ok (.aload_n 0, 1) := dk_42 (dk_at dksX7_chooses_0 9 rfl rfl)
theorem dX7_chooses_10 : decode cX7_chooses 10 = .ok (.invokevirtual 484, 3) := dk_182 1 228 (dk_at dksX7_chooses_0 10 rfl rfl)
theorem dX7_chooses_13 : decode cX7_chooses 13 = .ok (.ifCond .eq 4, 3) := dk_153 0 4 (dk_at dksX7_chooses_0 13 rfl rfl)
theorem dX7_chooses_16 : decode cX7_chooses 16 = .ok (.return_, 1) := dk_177 (dk_at dksX7_chooses_0 16 rfl rfl)
theorem dX7_chooses_17 : decode cX7_chooses 17 = .ok (.iconst 0, 1) := dk_3 (dk_at dksX7_chooses_0 17 rfl rfl)
theorem dX7_chooses_18 : decode cX7_chooses 18 = .ok (.istore_n 2, 1) := dk_61 (dk_at dksX7_chooses_0 18 rfl rfl)
theorem dX7_chooses_19 : decode cX7_chooses 19 = .ok (.iconst 0, 1) := dk_3 (dk_at dksX7_chooses_0 19 rfl rfl)
theorem dX7_chooses_20 : decode cX7_chooses 20 = .ok (.istore_n 3, 1) := dk_62 (dk_at dksX7_chooses_0 20 rfl rfl)
theorem dX7_chooses_21 : decode cX7_chooses 21 = .ok (.iload_n 3, 1) := dk_29 (dk_at dksX7_chooses_0 21 rfl rfl)
theorem dX7_chooses_22 : decode cX7_chooses 22 = .ok (.aload_n 0, 1) := dk_42 (dk_at dksX7_chooses_0 22 rfl rfl)
theorem dX7_chooses_23 : decode cX7_chooses 23 = .ok (.invokevirtual 433, 3) := dk_182 1 177 (dk_at dksX7_chooses_1 0 rfl rfl)
theorem dX7_chooses_26 : decode cX7_chooses 26 = .ok (.if_icmp .ge 94, 3) := dk_162 0 94 (dk_at dksX7_chooses_1 3 rfl rfl)
theorem dX7_chooses_29 : decode cX7_chooses 29 = .ok (.aload_n 0, 1) := dk_42 (dk_at dksX7_chooses_1 6 rfl rfl)
theorem dX7_chooses_30 : decode cX7_chooses 30 = .ok (.getfield 515, 3) := dk_180 2 3 (dk_at dksX7_chooses_1 7 rfl rfl)
theorem dX7_chooses_33 : decode cX7_chooses 33 = .ok (.iconst (-1), 1) := dk_2 (dk_at dksX7_chooses_1 10 rfl rfl)
theorem dX7_chooses_34 : decode cX7_chooses 34 = .ok (.if_icmp .ne 86, 3) := dk_160 0 86 (dk_at dksX7_chooses_1 11 rfl rfl)
theorem dX7_chooses_37 : decode cX7_chooses 37 = .ok (.iconst 0, 1) := dk_3 (dk_at dksX7_chooses_1 14 rfl rfl)
theorem dX7_chooses_38 : decode cX7_chooses 38 = .ok (.istore 4, 2) := dk_54 4 (dk_at dksX7_chooses_1 15 rfl rfl)
theorem dX7_chooses_40 : decode cX7_chooses 40 = .ok (.iload 4, 2) := dk_21 4 (dk_at dksX7_chooses_1 17 rfl rfl)
theorem dX7_chooses_42 : decode cX7_chooses 42 = .ok (.aload_n 0, 1) := dk_42 (dk_at dksX7_chooses_1 19 rfl rfl)
theorem dX7_chooses_43 : decode cX7_chooses 43 = .ok (.invokevirtual 471, 3) := dk_182 1 215 (dk_at dksX7_chooses_1 20 rfl rfl)
theorem dX7_chooses_46 : decode cX7_chooses 46 = .ok (.if_icmp .ge 68, 3) := dk_162 0 68 (dk_at dksX7_chooses_2 0 rfl rfl)
theorem dX7_chooses_49 : decode cX7_chooses 49 = .ok (.aload_n 0, 1) := dk_42 (dk_at dksX7_chooses_2 3 rfl rfl)
theorem dX7_chooses_50 : decode cX7_chooses 50 = .ok (.getfield 515, 3) := dk_180 2 3 (dk_at dksX7_chooses_2 4 rfl rfl)
theorem dX7_chooses_53 : decode cX7_chooses 53 = .ok (.iconst (-1), 1) := dk_2 (dk_at dksX7_chooses_2 7 rfl rfl)
theorem dX7_chooses_54 : decode cX7_chooses 54 = .ok (.if_icmp .ne 60, 3) := dk_160 0 60 (dk_at dksX7_chooses_2 8 rfl rfl)
theorem dX7_chooses_57 : decode cX7_chooses 57 = .ok (.aload_n 0, 1) := dk_42 (dk_at dksX7_chooses_2 11 rfl rfl)
theorem dX7_chooses_58 : decode cX7_chooses 58 = .ok (.iload_n 3, 1) := dk_29 (dk_at dksX7_chooses_2 12 rfl rfl)
theorem dX7_chooses_59 : decode cX7_chooses 59 = .ok (.invokevirtual 468, 3) := dk_182 1 212 (dk_at dksX7_chooses_2 13 rfl rfl)
theorem dX7_chooses_62 : decode cX7_chooses 62 = .ok (.aload_n 0, 1) := dk_42 (dk_at dksX7_chooses_2 16 rfl rfl)
theorem dX7_chooses_63 : decode cX7_chooses 63 = .ok (.getfield 154, 3) := dk_180 0 154 (dk_at dksX7_chooses_2 17 rfl rfl)
theorem dX7_chooses_66 : decode cX7_chooses 66 = .ok (.iconst 1, 1) := dk_4 (dk_at dksX7_chooses_2 20 rfl rfl)
theorem dX7_chooses_67 : decode cX7_chooses 67 = .ok (.iaload, 1) := dk_46 (dk_at dksX7_chooses_2 21 rfl rfl)
theorem dX7_chooses_68 : decode cX7_chooses 68 = .ok (.if_icmp .ne 40, 3) := dk_160 0 40 (dk_at dksX7_chooses_3 0 rfl rfl)
theorem dX7_chooses_71 : decode cX7_chooses 71 = .ok (.aload_n 0, 1) := dk_42 (dk_at dksX7_chooses_3 3 rfl rfl)
theorem dX7_chooses_72 : decode cX7_chooses 72 = .ok (.iload_n 3, 1) := dk_29 (dk_at dksX7_chooses_3 4 rfl rfl)
theorem dX7_chooses_73 : decode cX7_chooses 73 = .ok (.iload 4, 2) := dk_21 4 (dk_at dksX7_chooses_3 5 rfl rfl)
theorem dX7_chooses_75 : decode cX7_chooses 75 = .ok (.invokevirtual 474, 3) := dk_182 1 218 (dk_at dksX7_chooses_3 7 rfl rfl)
theorem dX7_chooses_78 : decode cX7_chooses 78 = .ok (.ifCond .ne 6, 3) := dk_154 0 6 (dk_at dksX7_chooses_3 10 rfl rfl)
theorem dX7_chooses_81 : decode cX7_chooses 81 = .ok (.goto 27, 3) := dk_167 0 27 (dk_at dksX7_chooses_3 13 rfl rfl)
theorem dX7_chooses_84 : decode cX7_chooses 84 = .ok (.iload_n 2, 1) := dk_28 (dk_at dksX7_chooses_3 16 rfl rfl)
theorem dX7_chooses_85 : decode cX7_chooses 85 = .ok (.iload_n 1, 1) := dk_27 (dk_at dksX7_chooses_3 17 rfl rfl)
theorem dX7_chooses_86 : decode cX7_chooses 86 = .ok (.if_icmp .ne 19, 3) := dk_160 0 19 (dk_at dksX7_chooses_3 18 rfl rfl)
theorem dX7_chooses_89 : decode cX7_chooses 89 = .ok (.aload_n 0, 1) := dk_42 (dk_at dksX7_chooses_3 21 rfl rfl)
theorem dX7_chooses_90 : decode cX7_chooses 90 = .ok (.iload_n 1, 1) := dk_27 (dk_at dksX7_chooses_3 22 rfl rfl)
theorem dX7_chooses_91 : decode cX7_chooses 91 = .ok (.putfield 515, 3) := dk_181 2 3 (dk_at dksX7_chooses_4 0 rfl rfl)
theorem dX7_chooses_94 : decode cX7_chooses 94 = .ok (.aload_n 0, 1) := dk_42 (dk_at dksX7_chooses_4 3 rfl rfl)
theorem dX7_chooses_95 : decode cX7_chooses 95 = .ok (.iload_n 3, 1) := dk_29 (dk_at dksX7_chooses_4 4 rfl rfl)
theorem dX7_chooses_96 : decode cX7_chooses 96 = .ok (.putfield 521, 3) := dk_181 2 9 (dk_at dksX7_chooses_4 5 rfl rfl)
theorem dX7_chooses_99 : decode cX7_chooses 99 = .ok (.aload_n 0, 1) := dk_42 (dk_at dksX7_chooses_4 8 rfl rfl)
theorem dX7_chooses_100 : decode cX7_chooses 100 = .ok (.iload 4, 2) := dk_21 4 (dk_at dksX7_chooses_4 9 rfl rfl)
theorem dX7_chooses_102 : decode cX7_chooses 102 = .ok (.putfield 524, 3) := dk_181 2 12 (dk_at dksX7_chooses_4 11 rfl rfl)
theorem dX7_chooses_105 : decode cX7_chooses 105 = .ok (.iinc 2 1, 3) := dk_132 2 1 (dk_at dksX7_chooses_4 14 rfl rfl)
theorem dX7_chooses_108 : decode cX7_chooses 108 = .ok (.iinc 4 1, 3) := dk_132 4 1 (dk_at dksX7_chooses_4 17 rfl rfl)
theorem dX7_chooses_111 : decode cX7_chooses 111 = .ok (.goto (-71), 3) := dk_167 255 185 (dk_at dksX7_chooses_4 20 rfl rfl)
theorem dX7_chooses_114 : decode cX7_chooses 114 = .ok (.iinc 3 1, 3) := dk_132 3 1 (dk_at dksX7_chooses_5 0 rfl rfl)
theorem dX7_chooses_117 : decode cX7_chooses 117 = .ok (.goto (-96), 3) := dk_167 255 160 (dk_at dksX7_chooses_5 3 rfl rfl)
theorem dX7_chooses_120 : decode cX7_chooses 120 = .ok (.return_, 1) := dk_177 (dk_at dksX7_chooses_5 6 rfl rfl)
abbrev cX7_does : ByteArray := prog_25_method_54_code
def yX7_does : MethodName := ⟨RX7, "does", "(III)V"⟩
def dkwX7_does_5 : List UInt8 := [104, 96, 4, 96, 21, 5, 79, 42, 180, 0, 154, 4, 4, 42, 180, 0, 154, 4, 46, 100, 79, 177]
abbrev dktX7_does_5 : List UInt8 := dkwX7_does_5 ++ []
def dkwX7_does_4 : List UInt8 := [96, 4, 96, 2, 79, 42, 180, 0, 154, 5, 5, 28, 104, 96, 21, 4, 79, 42, 180, 0, 154, 5, 5, 28]
abbrev dktX7_does_4 : List UInt8 := dkwX7_does_4 ++ dktX7_does_5
def dkwX7_does_3 : List UInt8 := [159, 0, 29, 42, 180, 0, 154, 5, 5, 21, 6, 104, 96, 2, 79, 42, 180, 0, 154, 5, 5, 21, 6, 104]
abbrev dktX7_does_3 : List UInt8 := dkwX7_does_3 ++ dktX7_does_4
def dkwX7_does_2 : List UInt8 := [79, 42, 180, 0, 166, 27, 42, 28, 182, 1, 190, 79, 42, 180, 0, 169, 27, 21, 6, 79, 21, 6, 2]
abbrev dktX7_does_2 : List UInt8 := dkwX7_does_2 ++ dktX7_does_3
def dkwX7_does_1 : List UInt8 := [21, 5, 182, 1, 199, 54, 6, 42, 180, 0, 160, 27, 28, 79, 42, 180, 0, 163, 27, 42, 28, 182, 1, 183]
abbrev dktX7_does_1 : List UInt8 := dkwX7_does_1 ++ dktX7_does_2
def dkwX7_does_0 : List UInt8 := [29, 42, 180, 0, 127, 7, 46, 112, 54, 4, 29, 42, 180, 0, 127, 7, 46, 108, 54, 5, 42, 21, 4]
abbrev dktX7_does_0 : List UInt8 := dkwX7_does_0 ++ dktX7_does_1
theorem dksX7_does_0 : cX7_does.data.toList.drop 0 = dktX7_does_0 := by decide +kernel
theorem dksX7_does_1 : cX7_does.data.toList.drop 23 = dktX7_does_1 := dk_seg dksX7_does_0 23 rfl rfl
theorem dksX7_does_2 : cX7_does.data.toList.drop 47 = dktX7_does_2 := dk_seg dksX7_does_1 24 rfl rfl
theorem dksX7_does_3 : cX7_does.data.toList.drop 70 = dktX7_does_3 := dk_seg dksX7_does_2 23 rfl rfl
theorem dksX7_does_4 : cX7_does.data.toList.drop 94 = dktX7_does_4 := dk_seg dksX7_does_3 24 rfl rfl
theorem dksX7_does_5 : cX7_does.data.toList.drop 118 = dktX7_does_5 := dk_seg dksX7_does_4 24 rfl rfl
theorem dX7_does_0 : decode cX7_does 0 = .ok (.iload_n 3, 1) := dk_29 (dk_at dksX7_does_0 0 rfl rfl)
theorem dX7_does_1 : decode cX7_does 1 = .ok (.aload_n 0, 1) := dk_42 (dk_at dksX7_does_0 1 rfl rfl)
theorem dX7_does_2 : decode cX7_does 2 = .ok (.getfield 127, 3) := dk_180 0 127 (dk_at dksX7_does_0 2 rfl rfl)
theorem dX7_does_5 : decode cX7_does 5 = .ok (.iconst 4, 1) := dk_7 (dk_at dksX7_does_0 5 rfl rfl)
theorem dX7_does_6 : decode cX7_does 6 = .ok (.iaload, 1) := dk_46 (dk_at dksX7_does_0 6 rfl rfl)
theorem dX7_does_7 : decode cX7_does 7 = .ok (.irem, 1) := dk_112 (dk_at dksX7_does_0 7 rfl rfl)
theorem dX7_does_8 : decode cX7_does 8 = .ok (.istore 4, 2) := dk_54 4 (dk_at dksX7_does_0 8 rfl rfl)
theorem dX7_does_10 : decode cX7_does 10 = .ok (.iload_n 3, 1) := dk_29 (dk_at dksX7_does_0 10 rfl rfl)
theorem dX7_does_11 : decode cX7_does 11 = .ok (.aload_n 0, 1) := dk_42 (dk_at dksX7_does_0 11 rfl rfl)
theorem dX7_does_12 : decode cX7_does 12 = .ok (.getfield 127, 3) := dk_180 0 127 (dk_at dksX7_does_0 12 rfl rfl)
theorem dX7_does_15 : decode cX7_does 15 = .ok (.iconst 4, 1) := dk_7 (dk_at dksX7_does_0 15 rfl rfl)
theorem dX7_does_16 : decode cX7_does 16 = .ok (.iaload, 1) := dk_46 (dk_at dksX7_does_0 16 rfl rfl)
theorem dX7_does_17 : decode cX7_does 17 = .ok (.idiv, 1) := dk_108 (dk_at dksX7_does_0 17 rfl rfl)
theorem dX7_does_18 : decode cX7_does 18 = .ok (.istore 5, 2) := dk_54 5 (dk_at dksX7_does_0 18 rfl rfl)
theorem dX7_does_20 : decode cX7_does 20 = .ok (.aload_n 0, 1) := dk_42 (dk_at dksX7_does_0 20 rfl rfl)
theorem dX7_does_21 : decode cX7_does 21 = .ok (.iload 4, 2) := dk_21 4 (dk_at dksX7_does_0 21 rfl rfl)
theorem dX7_does_23 : decode cX7_does 23 = .ok (.iload 5, 2) := dk_21 5 (dk_at dksX7_does_1 0 rfl rfl)
theorem dX7_does_25 : decode cX7_does 25 = .ok (.invokevirtual 455, 3) := dk_182 1 199 (dk_at dksX7_does_1 2 rfl rfl)
theorem dX7_does_28 : decode cX7_does 28 = .ok (.istore 6, 2) := dk_54 6 (dk_at dksX7_does_1 5 rfl rfl)
theorem dX7_does_30 : decode cX7_does 30 = .ok (.aload_n 0, 1) := dk_42 (dk_at dksX7_does_1 7 rfl rfl)
theorem dX7_does_31 : decode cX7_does 31 = .ok (.getfield 160, 3) := dk_180 0 160 (dk_at dksX7_does_1 8 rfl rfl)
theorem dX7_does_34 : decode cX7_does 34 = .ok (.iload_n 1, 1) := dk_27 (dk_at dksX7_does_1 11 rfl rfl)
theorem dX7_does_35 : decode cX7_does 35 = .ok (.iload_n 2, 1) := dk_28 (dk_at dksX7_does_1 12 rfl rfl)
theorem dX7_does_36 : decode cX7_does 36 = .ok (.iastore, 1) := dk_79 (dk_at dksX7_does_1 13 rfl rfl)
theorem dX7_does_37 : decode cX7_does 37 = .ok (.aload_n 0, 1) := dk_42 (dk_at dksX7_does_1 14 rfl rfl)
theorem dX7_does_38 : decode cX7_does 38 = .ok (.getfield 163, 3) := dk_180 0 163 (dk_at dksX7_does_1 15 rfl rfl)
theorem dX7_does_41 : decode cX7_does 41 = .ok (.iload_n 1, 1) := dk_27 (dk_at dksX7_does_1 18 rfl rfl)
theorem dX7_does_42 : decode cX7_does 42 = .ok (.aload_n 0, 1) := dk_42 (dk_at dksX7_does_1 19 rfl rfl)
theorem dX7_does_43 : decode cX7_does 43 = .ok (.iload_n 2, 1) := dk_28 (dk_at dksX7_does_1 20 rfl rfl)
theorem dX7_does_44 : decode cX7_does 44 = .ok (.invokevirtual 439, 3) := dk_182 1 183 (dk_at dksX7_does_1 21 rfl rfl)
theorem dX7_does_47 : decode cX7_does 47 = .ok (.iastore, 1) := dk_79 (dk_at dksX7_does_2 0 rfl rfl)
theorem dX7_does_48 : decode cX7_does 48 = .ok (.aload_n 0, 1) := dk_42 (dk_at dksX7_does_2 1 rfl rfl)
theorem dX7_does_49 : decode cX7_does 49 = .ok (.getfield 166, 3) := dk_180 0 166 (dk_at dksX7_does_2 2 rfl rfl)
theorem dX7_does_52 : decode cX7_does 52 = .ok (.iload_n 1, 1) := dk_27 (dk_at dksX7_does_2 5 rfl rfl)
theorem dX7_does_53 : decode cX7_does 53 = .ok (.aload_n 0, 1) := dk_42 (dk_at dksX7_does_2 6 rfl rfl)
theorem dX7_does_54 : decode cX7_does 54 = .ok (.iload_n 2, 1) := dk_28 (dk_at dksX7_does_2 7 rfl rfl)
theorem dX7_does_55 : decode cX7_does 55 = .ok (.invokevirtual 446, 3) := dk_182 1 190 (dk_at dksX7_does_2 8 rfl rfl)
theorem dX7_does_58 : decode cX7_does 58 = .ok (.iastore, 1) := dk_79 (dk_at dksX7_does_2 11 rfl rfl)
theorem dX7_does_59 : decode cX7_does 59 = .ok (.aload_n 0, 1) := dk_42 (dk_at dksX7_does_2 12 rfl rfl)
theorem dX7_does_60 : decode cX7_does 60 = .ok (.getfield 169, 3) := dk_180 0 169 (dk_at dksX7_does_2 13 rfl rfl)
theorem dX7_does_63 : decode cX7_does 63 = .ok (.iload_n 1, 1) := dk_27 (dk_at dksX7_does_2 16 rfl rfl)
theorem dX7_does_64 : decode cX7_does 64 = .ok (.iload 6, 2) := dk_21 6 (dk_at dksX7_does_2 17 rfl rfl)
theorem dX7_does_66 : decode cX7_does 66 = .ok (.iastore, 1) := dk_79 (dk_at dksX7_does_2 19 rfl rfl)
theorem dX7_does_67 : decode cX7_does 67 = .ok (.iload 6, 2) := dk_21 6 (dk_at dksX7_does_2 20 rfl rfl)
theorem dX7_does_69 : decode cX7_does 69 = .ok (.iconst (-1), 1) := dk_2 (dk_at dksX7_does_2 22 rfl rfl)
theorem dX7_does_70 : decode cX7_does 70 = .ok (.if_icmp .eq 29, 3) := dk_159 0 29 (dk_at dksX7_does_3 0 rfl rfl)
theorem dX7_does_73 : decode cX7_does 73 = .ok (.aload_n 0, 1) := dk_42 (dk_at dksX7_does_3 3 rfl rfl)
theorem dX7_does_74 : decode cX7_does 74 = .ok (.getfield 154, 3) := dk_180 0 154 (dk_at dksX7_does_3 4 rfl rfl)
theorem dX7_does_77 : decode cX7_does 77 = .ok (.iconst 2, 1) := dk_5 (dk_at dksX7_does_3 7 rfl rfl)
theorem dX7_does_78 : decode cX7_does 78 = .ok (.iconst 2, 1) := dk_5 (dk_at dksX7_does_3 8 rfl rfl)
theorem dX7_does_79 : decode cX7_does 79 = .ok (.iload 6, 2) := dk_21 6 (dk_at dksX7_does_3 9 rfl rfl)
theorem dX7_does_81 : decode cX7_does 81 = .ok (.imul, 1) := dk_104 (dk_at dksX7_does_3 11 rfl rfl)
theorem dX7_does_82 : decode cX7_does 82 = .ok (.iadd, 1) := dk_96 (dk_at dksX7_does_3 12 rfl rfl)
theorem dX7_does_83 : decode cX7_does 83 = .ok (.iconst (-1), 1) := dk_2 (dk_at dksX7_does_3 13 rfl rfl)
theorem dX7_does_84 : decode cX7_does 84 = .ok (.iastore, 1) := dk_79 (dk_at dksX7_does_3 14 rfl rfl)
theorem dX7_does_85 : decode cX7_does 85 = .ok (.aload_n 0, 1) := dk_42 (dk_at dksX7_does_3 15 rfl rfl)
theorem dX7_does_86 : decode cX7_does 86 = .ok (.getfield 154, 3) := dk_180 0 154 (dk_at dksX7_does_3 16 rfl rfl)
theorem dX7_does_89 : decode cX7_does 89 = .ok (.iconst 2, 1) := dk_5 (dk_at dksX7_does_3 19 rfl rfl)
theorem dX7_does_90 : decode cX7_does 90 = .ok (.iconst 2, 1) := dk_5 (dk_at dksX7_does_3 20 rfl rfl)
theorem dX7_does_91 : decode cX7_does 91 = .ok (.iload 6, 2) := dk_21 6 (dk_at dksX7_does_3 21 rfl rfl)
theorem dX7_does_93 : decode cX7_does 93 = .ok (.imul, 1) := dk_104 (dk_at dksX7_does_3 23 rfl rfl)
theorem dX7_does_94 : decode cX7_does 94 = .ok (.iadd, 1) := dk_96 (dk_at dksX7_does_4 0 rfl rfl)
theorem dX7_does_95 : decode cX7_does 95 = .ok (.iconst 1, 1) := dk_4 (dk_at dksX7_does_4 1 rfl rfl)
theorem dX7_does_96 : decode cX7_does 96 = .ok (.iadd, 1) := dk_96 (dk_at dksX7_does_4 2 rfl rfl)
theorem dX7_does_97 : decode cX7_does 97 = .ok (.iconst (-1), 1) := dk_2 (dk_at dksX7_does_4 3 rfl rfl)
theorem dX7_does_98 : decode cX7_does 98 = .ok (.iastore, 1) := dk_79 (dk_at dksX7_does_4 4 rfl rfl)
theorem dX7_does_99 : decode cX7_does 99 = .ok (.aload_n 0, 1) := dk_42 (dk_at dksX7_does_4 5 rfl rfl)
theorem dX7_does_100 : decode cX7_does 100 = .ok (.getfield 154, 3) := dk_180 0 154 (dk_at dksX7_does_4 6 rfl rfl)
theorem dX7_does_103 : decode cX7_does 103 = .ok (.iconst 2, 1) := dk_5 (dk_at dksX7_does_4 9 rfl rfl)
theorem dX7_does_104 : decode cX7_does 104 = .ok (.iconst 2, 1) := dk_5 (dk_at dksX7_does_4 10 rfl rfl)
theorem dX7_does_105 : decode cX7_does 105 = .ok (.iload_n 2, 1) := dk_28 (dk_at dksX7_does_4 11 rfl rfl)
theorem dX7_does_106 : decode cX7_does 106 = .ok (.imul, 1) := dk_104 (dk_at dksX7_does_4 12 rfl rfl)
theorem dX7_does_107 : decode cX7_does 107 = .ok (.iadd, 1) := dk_96 (dk_at dksX7_does_4 13 rfl rfl)
theorem dX7_does_108 : decode cX7_does 108 = .ok (.iload 4, 2) := dk_21 4 (dk_at dksX7_does_4 14 rfl rfl)
theorem dX7_does_110 : decode cX7_does 110 = .ok (.iastore, 1) := dk_79 (dk_at dksX7_does_4 16 rfl rfl)
theorem dX7_does_111 : decode cX7_does 111 = .ok (.aload_n 0, 1) := dk_42 (dk_at dksX7_does_4 17 rfl rfl)
theorem dX7_does_112 : decode cX7_does 112 = .ok (.getfield 154, 3) := dk_180 0 154 (dk_at dksX7_does_4 18 rfl rfl)
theorem dX7_does_115 : decode cX7_does 115 = .ok (.iconst 2, 1) := dk_5 (dk_at dksX7_does_4 21 rfl rfl)
theorem dX7_does_116 : decode cX7_does 116 = .ok (.iconst 2, 1) := dk_5 (dk_at dksX7_does_4 22 rfl rfl)
theorem dX7_does_117 : decode cX7_does 117 = .ok (.iload_n 2, 1) := dk_28 (dk_at dksX7_does_4 23 rfl rfl)
theorem dX7_does_118 : decode cX7_does 118 = .ok (.imul, 1) := dk_104 (dk_at dksX7_does_5 0 rfl rfl)
theorem dX7_does_119 : decode cX7_does 119 = .ok (.iadd, 1) := dk_96 (dk_at dksX7_does_5 1 rfl rfl)
theorem dX7_does_120 : decode cX7_does 120 = .ok (.iconst 1, 1) := dk_4 (dk_at dksX7_does_5 2 rfl rfl)
theorem dX7_does_121 : decode cX7_does 121 = .ok (.iadd, 1) := dk_96 (dk_at dksX7_does_5 3 rfl rfl)
theorem dX7_does_122 : decode cX7_does 122 = .ok (.iload 5, 2) := dk_21 5 (dk_at dksX7_does_5 4 rfl rfl)
theorem dX7_does_124 : decode cX7_does 124 = .ok (.iastore, 1) := dk_79 (dk_at dksX7_does_5 6 rfl rfl)
theorem dX7_does_125 : decode cX7_does 125 = .ok (.aload_n 0, 1) := dk_42 (dk_at dksX7_does_5 7 rfl rfl)
theorem dX7_does_126 : decode cX7_does 126 = .ok (.getfield 154, 3) := dk_180 0 154 (dk_at dksX7_does_5 8 rfl rfl)
theorem dX7_does_129 : decode cX7_does 129 = .ok (.iconst 1, 1) := dk_4 (dk_at dksX7_does_5 11 rfl rfl)
theorem dX7_does_130 : decode cX7_does 130 = .ok (.iconst 1, 1) := dk_4 (dk_at dksX7_does_5 12 rfl rfl)
theorem dX7_does_131 : decode cX7_does 131 = .ok (.aload_n 0, 1) := dk_42 (dk_at dksX7_does_5 13 rfl rfl)
theorem dX7_does_132 : decode cX7_does 132 = .ok (.getfield 154, 3) := dk_180 0 154 (dk_at dksX7_does_5 14 rfl rfl)
theorem dX7_does_135 : decode cX7_does 135 = .ok (.iconst 1, 1) := dk_4 (dk_at dksX7_does_5 17 rfl rfl)
theorem dX7_does_136 : decode cX7_does 136 = .ok (.iaload, 1) := dk_46 (dk_at dksX7_does_5 18 rfl rfl)
theorem dX7_does_137 : decode cX7_does 137 = .ok (.isub, 1) := dk_100 (dk_at dksX7_does_5 19 rfl rfl)
theorem dX7_does_138 : decode cX7_does 138 = .ok (.iastore, 1) := dk_79 (dk_at dksX7_does_5 20 rfl rfl)
theorem dX7_does_139 : decode cX7_does 139 = .ok (.return_, 1) := dk_177 (dk_at dksX7_does_5 21 rfl rfl)
abbrev cX7_isCheck : ByteArray := prog_25_method_65_code
def yX7_isCheck : MethodName := ⟨RX7, "isCheck", "(I)Z"⟩
def dkwX7_isCheck_4 : List UInt8 := [167, 255, 164, 3, 172]
abbrev dktX7_isCheck_4 : List UInt8 := dkwX7_isCheck_4 ++ []
def dkwX7_isCheck_3 : List UInt8 := [182, 1, 190, 104, 96, 182, 1, 218, 153, 0, 5, 4, 172, 132, 3, 1, 167, 255, 208, 132, 2, 1]
abbrev dktX7_isCheck_3 : List UInt8 := dkwX7_isCheck_3 ++ dktX7_isCheck_4
def dkwX7_isCheck_2 : List UInt8 := [42, 29, 182, 1, 212, 27, 159, 0, 31, 42, 29, 42, 28, 182, 1, 183, 42, 180, 0, 127, 7, 46, 42, 28]
abbrev dktX7_isCheck_2 : List UInt8 := dkwX7_isCheck_2 ++ dktX7_isCheck_3
def dkwX7_isCheck_1 : List UInt8 := [160, 0, 67, 42, 28, 182, 1, 202, 153, 0, 6, 167, 0, 56, 3, 62, 29, 42, 182, 1, 177, 162, 0, 46]
abbrev dktX7_isCheck_1 : List UInt8 := dkwX7_isCheck_1 ++ dktX7_isCheck_2
def dkwX7_isCheck_0 : List UInt8 := [3, 61, 28, 42, 182, 1, 177, 162, 0, 90, 42, 28, 182, 1, 225, 153, 0, 76, 42, 28, 182, 1, 212, 27]
abbrev dktX7_isCheck_0 : List UInt8 := dkwX7_isCheck_0 ++ dktX7_isCheck_1
theorem dksX7_isCheck_0 : cX7_isCheck.data.toList.drop 0 = dktX7_isCheck_0 := by decide +kernel
theorem dksX7_isCheck_1 : cX7_isCheck.data.toList.drop 24 = dktX7_isCheck_1 := dk_seg dksX7_isCheck_0 24 rfl rfl
theorem dksX7_isCheck_2 : cX7_isCheck.data.toList.drop 48 = dktX7_isCheck_2 := dk_seg dksX7_isCheck_1 24 rfl rfl
theorem dksX7_isCheck_3 : cX7_isCheck.data.toList.drop 72 = dktX7_isCheck_3 := dk_seg dksX7_isCheck_2 24 rfl rfl
theorem dksX7_isCheck_4 : cX7_isCheck.data.toList.drop 94 = dktX7_isCheck_4 := dk_seg dksX7_isCheck_3 22 rfl rfl
theorem dX7_isCheck_0 : decode cX7_isCheck 0 = .ok (.iconst 0, 1) := dk_3 (dk_at dksX7_isCheck_0 0 rfl rfl)
theorem dX7_isCheck_1 : decode cX7_isCheck 1 = .ok (.istore_n 2, 1) := dk_61 (dk_at dksX7_isCheck_0 1 rfl rfl)
theorem dX7_isCheck_2 : decode cX7_isCheck 2 = .ok (.iload_n 2, 1) := dk_28 (dk_at dksX7_isCheck_0 2 rfl rfl)
theorem dX7_isCheck_3 : decode cX7_isCheck 3 = .ok (.aload_n 0, 1) := dk_42 (dk_at dksX7_isCheck_0 3 rfl rfl)
theorem dX7_isCheck_4 : decode cX7_isCheck 4 = .ok (.invokevirtual 433, 3) := dk_182 1 177 (dk_at dksX7_isCheck_0 4 rfl rfl)
theorem dX7_isCheck_7 : decode cX7_isCheck 7 = .ok (.if_icmp .ge 90, 3) := dk_162 0 90 (dk_at dksX7_isCheck_0 7 rfl rfl)
theorem dX7_isCheck_10 : decode cX7_isCheck 10 = .ok (.aload_n 0, 1) := dk_42 (dk_at dksX7_isCheck_0 10 rfl rfl)
theorem dX7_isCheck_11 : decode cX7_isCheck 11 = .ok (.iload_n 2, 1) := dk_28 (dk_at dksX7_isCheck_0 11 rfl rfl)
theorem dX7_isCheck_12 : decode cX7_isCheck 12 = .ok (.invokevirtual 481, 3) := dk_182 1 225 (dk_at dksX7_isCheck_0 12 rfl rfl)
theorem dX7_isCheck_15 : decode cX7_isCheck 15 = .ok (.ifCond .eq 76, 3) := dk_153 0 76 (dk_at dksX7_isCheck_0 15 rfl rfl)
theorem dX7_isCheck_18 : decode cX7_isCheck 18 = .ok (.aload_n 0, 1) := dk_42 (dk_at dksX7_isCheck_0 18 rfl rfl)
theorem dX7_isCheck_19 : decode cX7_isCheck 19 = .ok (.iload_n 2, 1) := dk_28 (dk_at dksX7_isCheck_0 19 rfl rfl)
theorem dX7_isCheck_20 : decode cX7_isCheck 20 = .ok (.invokevirtual 468, 3) := dk_182 1 212 (dk_at dksX7_isCheck_0 20 rfl rfl)
theorem dX7_isCheck_23 : decode cX7_isCheck 23 = .ok (.iload_n 1, 1) := dk_27 (dk_at dksX7_isCheck_0 23 rfl rfl)
theorem dX7_isCheck_24 : decode cX7_isCheck 24 = .ok (.if_icmp .ne 67, 3) := dk_160 0 67 (dk_at dksX7_isCheck_1 0 rfl rfl)
theorem dX7_isCheck_27 : decode cX7_isCheck 27 = .ok (.aload_n 0, 1) := dk_42 (dk_at dksX7_isCheck_1 3 rfl rfl)
theorem dX7_isCheck_28 : decode cX7_isCheck 28 = .ok (.iload_n 2, 1) := dk_28 (dk_at dksX7_isCheck_1 4 rfl rfl)
theorem dX7_isCheck_29 : decode cX7_isCheck 29 = .ok (.invokevirtual 458, 3) := dk_182 1 202 (dk_at dksX7_isCheck_1 5 rfl rfl)
theorem dX7_isCheck_32 : decode cX7_isCheck 32 = .ok (.ifCond .eq 6, 3) := dk_153 0 6 (dk_at dksX7_isCheck_1 8 rfl rfl)
theorem dX7_isCheck_35 : decode cX7_isCheck 35 = .ok (.goto 56, 3) := dk_167 0 56 (dk_at dksX7_isCheck_1 11 rfl rfl)
theorem dX7_isCheck_38 : decode cX7_isCheck 38 = .ok (.iconst 0, 1) := dk_3 (dk_at dksX7_isCheck_1 14 rfl rfl)
theorem dX7_isCheck_39 : decode cX7_isCheck 39 = .ok (.istore_n 3, 1) := dk_62 (dk_at dksX7_isCheck_1 15 rfl rfl)
theorem dX7_isCheck_40 : decode cX7_isCheck 40 = .ok (.iload_n 3, 1) := dk_29 (dk_at dksX7_isCheck_1 16 rfl rfl)
theorem dX7_isCheck_41 : decode cX7_isCheck 41 = .ok (.aload_n 0, 1) := dk_42 (dk_at dksX7_isCheck_1 17 rfl rfl)
theorem dX7_isCheck_42 : decode cX7_isCheck 42 = .ok (.invokevirtual 433, 3) := dk_182 1 177 (dk_at dksX7_isCheck_1 18 rfl rfl)
theorem dX7_isCheck_45 : decode cX7_isCheck 45 = .ok (.if_icmp .ge 46, 3) := dk_162 0 46 (dk_at dksX7_isCheck_1 21 rfl rfl)
theorem dX7_isCheck_48 : decode cX7_isCheck 48 = .ok (.aload_n 0, 1) := dk_42 (dk_at dksX7_isCheck_2 0 rfl rfl)
theorem dX7_isCheck_49 : decode cX7_isCheck 49 = .ok (.iload_n 3, 1) := dk_29 (dk_at dksX7_isCheck_2 1 rfl rfl)
theorem dX7_isCheck_50 : decode cX7_isCheck 50 = .ok (.invokevirtual 468, 3) := dk_182 1 212 (dk_at dksX7_isCheck_2 2 rfl rfl)
theorem dX7_isCheck_53 : decode cX7_isCheck 53 = .ok (.iload_n 1, 1) := dk_27 (dk_at dksX7_isCheck_2 5 rfl rfl)
theorem dX7_isCheck_54 : decode cX7_isCheck 54 = .ok (.if_icmp .eq 31, 3) := dk_159 0 31 (dk_at dksX7_isCheck_2 6 rfl rfl)
theorem dX7_isCheck_57 : decode cX7_isCheck 57 = .ok (.aload_n 0, 1) := dk_42 (dk_at dksX7_isCheck_2 9 rfl rfl)
theorem dX7_isCheck_58 : decode cX7_isCheck 58 = .ok (.iload_n 3, 1) := dk_29 (dk_at dksX7_isCheck_2 10 rfl rfl)
theorem dX7_isCheck_59 : decode cX7_isCheck 59 = .ok (.aload_n 0, 1) := dk_42 (dk_at dksX7_isCheck_2 11 rfl rfl)
theorem dX7_isCheck_60 : decode cX7_isCheck 60 = .ok (.iload_n 2, 1) := dk_28 (dk_at dksX7_isCheck_2 12 rfl rfl)
theorem dX7_isCheck_61 : decode cX7_isCheck 61 = .ok (.invokevirtual 439, 3) := dk_182 1 183 (dk_at dksX7_isCheck_2 13 rfl rfl)
theorem dX7_isCheck_64 : decode cX7_isCheck 64 = .ok (.aload_n 0, 1) := dk_42 (dk_at dksX7_isCheck_2 16 rfl rfl)
theorem dX7_isCheck_65 : decode cX7_isCheck 65 = .ok (.getfield 127, 3) := dk_180 0 127 (dk_at dksX7_isCheck_2 17 rfl rfl)
theorem dX7_isCheck_68 : decode cX7_isCheck 68 = .ok (.iconst 4, 1) := dk_7 (dk_at dksX7_isCheck_2 20 rfl rfl)
theorem dX7_isCheck_69 : decode cX7_isCheck 69 = .ok (.iaload, 1) := dk_46 (dk_at dksX7_isCheck_2 21 rfl rfl)
theorem dX7_isCheck_70 : decode cX7_isCheck 70 = .ok (.aload_n 0, 1) := dk_42 (dk_at dksX7_isCheck_2 22 rfl rfl)
theorem dX7_isCheck_71 : decode cX7_isCheck 71 = .ok (.iload_n 2, 1) := dk_28 (dk_at dksX7_isCheck_2 23 rfl rfl)
theorem dX7_isCheck_72 : decode cX7_isCheck 72 = .ok (.invokevirtual 446, 3) := dk_182 1 190 (dk_at dksX7_isCheck_3 0 rfl rfl)
theorem dX7_isCheck_75 : decode cX7_isCheck 75 = .ok (.imul, 1) := dk_104 (dk_at dksX7_isCheck_3 3 rfl rfl)
theorem dX7_isCheck_76 : decode cX7_isCheck 76 = .ok (.iadd, 1) := dk_96 (dk_at dksX7_isCheck_3 4 rfl rfl)
theorem dX7_isCheck_77 : decode cX7_isCheck 77 = .ok (.invokevirtual 474, 3) := dk_182 1 218 (dk_at dksX7_isCheck_3 5 rfl rfl)
theorem dX7_isCheck_80 : decode cX7_isCheck 80 = .ok (.ifCond .eq 5, 3) := dk_153 0 5 (dk_at dksX7_isCheck_3 8 rfl rfl)
theorem dX7_isCheck_83 : decode cX7_isCheck 83 = .ok (.iconst 1, 1) := dk_4 (dk_at dksX7_isCheck_3 11 rfl rfl)
theorem dX7_isCheck_84 : decode cX7_isCheck 84 = .ok (.ireturn, 1) := dk_172 (dk_at dksX7_isCheck_3 12 rfl rfl)
theorem dX7_isCheck_85 : decode cX7_isCheck 85 = .ok (.iinc 3 1, 3) := dk_132 3 1 (dk_at dksX7_isCheck_3 13 rfl rfl)
theorem dX7_isCheck_88 : decode cX7_isCheck 88 = .ok (.goto (-48), 3) := dk_167 255 208 (dk_at dksX7_isCheck_3 16 rfl rfl)
theorem dX7_isCheck_91 : decode cX7_isCheck 91 = .ok (.iinc 2 1, 3) := dk_132 2 1 (dk_at dksX7_isCheck_3 19 rfl rfl)
theorem dX7_isCheck_94 : decode cX7_isCheck 94 = .ok (.goto (-92), 3) := dk_167 255 164 (dk_at dksX7_isCheck_4 0 rfl rfl)
theorem dX7_isCheck_97 : decode cX7_isCheck 97 = .ok (.iconst 0, 1) := dk_3 (dk_at dksX7_isCheck_4 3 rfl rfl)
theorem dX7_isCheck_98 : decode cX7_isCheck 98 = .ok (.ireturn, 1) := dk_172 (dk_at dksX7_isCheck_4 4 rfl rfl)
abbrev cX7_undoes : ByteArray := prog_25_method_55_code
def yX7_undoes : MethodName := ⟨RX7, "undoes", "(I)V"⟩
def dkwX7_undoes_4 : List UInt8 := [4, 46, 100, 79, 177]
abbrev dktX7_undoes_4 : List UInt8 := dkwX7_undoes_4 ++ []
def dkwX7_undoes_3 : List UInt8 := [5, 5, 28, 104, 96, 4, 96, 42, 180, 0, 166, 27, 46, 79, 42, 180, 0, 154, 4, 4, 42, 180, 0, 154]
abbrev dktX7_undoes_3 : List UInt8 := dkwX7_undoes_3 ++ dktX7_undoes_4
def dkwX7_undoes_2 : List UInt8 := [182, 1, 190, 79, 42, 180, 0, 154, 5, 5, 28, 104, 96, 42, 180, 0, 163, 27, 46, 79, 42, 180, 0, 154]
abbrev dktX7_undoes_2 : List UInt8 := dkwX7_undoes_2 ++ dktX7_undoes_3
def dkwX7_undoes_1 : List UInt8 := [5, 29, 104, 96, 42, 28, 182, 1, 183, 79, 42, 180, 0, 154, 5, 5, 29, 104, 96, 4, 96, 42, 28]
abbrev dktX7_undoes_1 : List UInt8 := dkwX7_undoes_1 ++ dktX7_undoes_2
def dkwX7_undoes_0 : List UInt8 := [42, 180, 0, 160, 27, 46, 61, 42, 180, 0, 169, 27, 46, 62, 29, 2, 159, 0, 35, 42, 180, 0, 154, 5]
abbrev dktX7_undoes_0 : List UInt8 := dkwX7_undoes_0 ++ dktX7_undoes_1
theorem dksX7_undoes_0 : cX7_undoes.data.toList.drop 0 = dktX7_undoes_0 := by decide +kernel
theorem dksX7_undoes_1 : cX7_undoes.data.toList.drop 24 = dktX7_undoes_1 := dk_seg dksX7_undoes_0 24 rfl rfl
theorem dksX7_undoes_2 : cX7_undoes.data.toList.drop 47 = dktX7_undoes_2 := dk_seg dksX7_undoes_1 23 rfl rfl
theorem dksX7_undoes_3 : cX7_undoes.data.toList.drop 71 = dktX7_undoes_3 := dk_seg dksX7_undoes_2 24 rfl rfl
theorem dksX7_undoes_4 : cX7_undoes.data.toList.drop 95 = dktX7_undoes_4 := dk_seg dksX7_undoes_3 24 rfl rfl
theorem dX7_undoes_0 : decode cX7_undoes 0 = .ok (.aload_n 0, 1) := dk_42 (dk_at dksX7_undoes_0 0 rfl rfl)
theorem dX7_undoes_1 : decode cX7_undoes 1 = .ok (.getfield 160, 3) := dk_180 0 160 (dk_at dksX7_undoes_0 1 rfl rfl)
theorem dX7_undoes_4 : decode cX7_undoes 4 = .ok (.iload_n 1, 1) := dk_27 (dk_at dksX7_undoes_0 4 rfl rfl)
theorem dX7_undoes_5 : decode cX7_undoes 5 = .ok (.iaload, 1) := dk_46 (dk_at dksX7_undoes_0 5 rfl rfl)
theorem dX7_undoes_6 : decode cX7_undoes 6 = .ok (.istore_n 2, 1) := dk_61 (dk_at dksX7_undoes_0 6 rfl rfl)
theorem dX7_undoes_7 : decode cX7_undoes 7 = .ok (.aload_n 0, 1) := dk_42 (dk_at dksX7_undoes_0 7 rfl rfl)
theorem dX7_undoes_8 : decode cX7_undoes 8 = .ok (.getfield 169, 3) := dk_180 0 169 (dk_at dksX7_undoes_0 8 rfl rfl)
theorem dX7_undoes_11 : decode cX7_undoes 11 = .ok (.iload_n 1, 1) := dk_27 (dk_at dksX7_undoes_0 11 rfl rfl)
theorem dX7_undoes_12 : decode cX7_undoes 12 = .ok (.iaload, 1) := dk_46 (dk_at dksX7_undoes_0 12 rfl rfl)
theorem dX7_undoes_13 : decode cX7_undoes 13 = .ok (.istore_n 3, 1) := dk_62 (dk_at dksX7_undoes_0 13 rfl rfl)
theorem dX7_undoes_14 : decode cX7_undoes 14 = .ok (.iload_n 3, 1) := dk_29 (dk_at dksX7_undoes_0 14 rfl rfl)
theorem dX7_undoes_15 : decode cX7_undoes 15 = .ok (.iconst (-1), 1) := dk_2 (dk_at dksX7_undoes_0 15 rfl rfl)
theorem dX7_undoes_16 : decode cX7_undoes 16 = .ok (.if_icmp .eq 35, 3) := dk_159 0 35 (dk_at dksX7_undoes_0 16 rfl rfl)
theorem dX7_undoes_19 : decode cX7_undoes 19 = .ok (.aload_n 0, 1) := dk_42 (dk_at dksX7_undoes_0 19 rfl rfl)
theorem dX7_undoes_20 : decode cX7_undoes 20 = .ok (.getfield 154, 3) := dk_180 0 154 (dk_at dksX7_undoes_0 20 rfl rfl)
theorem dX7_undoes_23 : decode cX7_undoes 23 = .ok (.iconst 2, 1) := dk_5 (dk_at dksX7_undoes_0 23 rfl rfl)
theorem dX7_undoes_24 : decode cX7_undoes 24 = .ok (.iconst 2, 1) := dk_5 (dk_at dksX7_undoes_1 0 rfl rfl)
theorem dX7_undoes_25 : decode cX7_undoes 25 = .ok (.iload_n 3, 1) := dk_29 (dk_at dksX7_undoes_1 1 rfl rfl)
theorem dX7_undoes_26 : decode cX7_undoes 26 = .ok (.imul, 1) := dk_104 (dk_at dksX7_undoes_1 2 rfl rfl)
theorem dX7_undoes_27 : decode cX7_undoes 27 = .ok (.iadd, 1) := dk_96 (dk_at dksX7_undoes_1 3 rfl rfl)
theorem dX7_undoes_28 : decode cX7_undoes 28 = .ok (.aload_n 0, 1) := dk_42 (dk_at dksX7_undoes_1 4 rfl rfl)
theorem dX7_undoes_29 : decode cX7_undoes 29 = .ok (.iload_n 2, 1) := dk_28 (dk_at dksX7_undoes_1 5 rfl rfl)
theorem dX7_undoes_30 : decode cX7_undoes 30 = .ok (.invokevirtual 439, 3) := dk_182 1 183 (dk_at dksX7_undoes_1 6 rfl rfl)
theorem dX7_undoes_33 : decode cX7_undoes 33 = .ok (.iastore, 1) := dk_79 (dk_at dksX7_undoes_1 9 rfl rfl)
theorem dX7_undoes_34 : decode cX7_undoes 34 = .ok (.aload_n 0, 1) := dk_42 (dk_at dksX7_undoes_1 10 rfl rfl)
theorem dX7_undoes_35 : decode cX7_undoes 35 = .ok (.getfield 154, 3) := dk_180 0 154 (dk_at dksX7_undoes_1 11 rfl rfl)
theorem dX7_undoes_38 : decode cX7_undoes 38 = .ok (.iconst 2, 1) := dk_5 (dk_at dksX7_undoes_1 14 rfl rfl)
theorem dX7_undoes_39 : decode cX7_undoes 39 = .ok (.iconst 2, 1) := dk_5 (dk_at dksX7_undoes_1 15 rfl rfl)
theorem dX7_undoes_40 : decode cX7_undoes 40 = .ok (.iload_n 3, 1) := dk_29 (dk_at dksX7_undoes_1 16 rfl rfl)
theorem dX7_undoes_41 : decode cX7_undoes 41 = .ok (.imul, 1) := dk_104 (dk_at dksX7_undoes_1 17 rfl rfl)
theorem dX7_undoes_42 : decode cX7_undoes 42 = .ok (.iadd, 1) := dk_96 (dk_at dksX7_undoes_1 18 rfl rfl)
theorem dX7_undoes_43 : decode cX7_undoes 43 = .ok (.iconst 1, 1) := dk_4 (dk_at dksX7_undoes_1 19 rfl rfl)
theorem dX7_undoes_44 : decode cX7_undoes 44 = .ok (.iadd, 1) := dk_96 (dk_at dksX7_undoes_1 20 rfl rfl)
theorem dX7_undoes_45 : decode cX7_undoes 45 = .ok (.aload_n 0, 1) := dk_42 (dk_at dksX7_undoes_1 21 rfl rfl)
theorem dX7_undoes_46 : decode cX7_undoes 46 = .ok (.iload_n 2, 1) := dk_28 (dk_at dksX7_undoes_1 22 rfl rfl)
theorem dX7_undoes_47 : decode cX7_undoes 47 = .ok (.invokevirtual 446, 3) := dk_182 1 190 (dk_at dksX7_undoes_2 0 rfl rfl)
theorem dX7_undoes_50 : decode cX7_undoes 50 = .ok (.iastore, 1) := dk_79 (dk_at dksX7_undoes_2 3 rfl rfl)
theorem dX7_undoes_51 : decode cX7_undoes 51 = .ok (.aload_n 0, 1) := dk_42 (dk_at dksX7_undoes_2 4 rfl rfl)
theorem dX7_undoes_52 : decode cX7_undoes 52 = .ok (.getfield 154, 3) := dk_180 0 154 (dk_at dksX7_undoes_2 5 rfl rfl)
theorem dX7_undoes_55 : decode cX7_undoes 55 = .ok (.iconst 2, 1) := dk_5 (dk_at dksX7_undoes_2 8 rfl rfl)
theorem dX7_undoes_56 : decode cX7_undoes 56 = .ok (.iconst 2, 1) := dk_5 (dk_at dksX7_undoes_2 9 rfl rfl)
theorem dX7_undoes_57 : decode cX7_undoes 57 = .ok (.iload_n 2, 1) := dk_28 (dk_at dksX7_undoes_2 10 rfl rfl)
theorem dX7_undoes_58 : decode cX7_undoes 58 = .ok (.imul, 1) := dk_104 (dk_at dksX7_undoes_2 11 rfl rfl)
theorem dX7_undoes_59 : decode cX7_undoes 59 = .ok (.iadd, 1) := dk_96 (dk_at dksX7_undoes_2 12 rfl rfl)
theorem dX7_undoes_60 : decode cX7_undoes 60 = .ok (.aload_n 0, 1) := dk_42 (dk_at dksX7_undoes_2 13 rfl rfl)
theorem dX7_undoes_61 : decode cX7_undoes 61 = .ok (.getfield 163, 3) := dk_180 0 163 (dk_at dksX7_undoes_2 14 rfl rfl)
theorem dX7_undoes_64 : decode cX7_undoes 64 = .ok (.iload_n 1, 1) := dk_27 (dk_at dksX7_undoes_2 17 rfl rfl)
theorem dX7_undoes_65 : decode cX7_undoes 65 = .ok (.iaload, 1) := dk_46 (dk_at dksX7_undoes_2 18 rfl rfl)
theorem dX7_undoes_66 : decode cX7_undoes 66 = .ok (.iastore, 1) := dk_79 (dk_at dksX7_undoes_2 19 rfl rfl)
theorem dX7_undoes_67 : decode cX7_undoes 67 = .ok (.aload_n 0, 1) := dk_42 (dk_at dksX7_undoes_2 20 rfl rfl)
theorem dX7_undoes_68 : decode cX7_undoes 68 = .ok (.getfield 154, 3) := dk_180 0 154 (dk_at dksX7_undoes_2 21 rfl rfl)
theorem dX7_undoes_71 : decode cX7_undoes 71 = .ok (.iconst 2, 1) := dk_5 (dk_at dksX7_undoes_3 0 rfl rfl)
theorem dX7_undoes_72 : decode cX7_undoes 72 = .ok (.iconst 2, 1) := dk_5 (dk_at dksX7_undoes_3 1 rfl rfl)
theorem dX7_undoes_73 : decode cX7_undoes 73 = .ok (.iload_n 2, 1) := dk_28 (dk_at dksX7_undoes_3 2 rfl rfl)
theorem dX7_undoes_74 : decode cX7_undoes 74 = .ok (.imul, 1) := dk_104 (dk_at dksX7_undoes_3 3 rfl rfl)
theorem dX7_undoes_75 : decode cX7_undoes 75 = .ok (.iadd, 1) := dk_96 (dk_at dksX7_undoes_3 4 rfl rfl)
theorem dX7_undoes_76 : decode cX7_undoes 76 = .ok (.iconst 1, 1) := dk_4 (dk_at dksX7_undoes_3 5 rfl rfl)
theorem dX7_undoes_77 : decode cX7_undoes 77 = .ok (.iadd, 1) := dk_96 (dk_at dksX7_undoes_3 6 rfl rfl)
theorem dX7_undoes_78 : decode cX7_undoes 78 = .ok (.aload_n 0, 1) := dk_42 (dk_at dksX7_undoes_3 7 rfl rfl)
theorem dX7_undoes_79 : decode cX7_undoes 79 = .ok (.getfield 166, 3) := dk_180 0 166 (dk_at dksX7_undoes_3 8 rfl rfl)
theorem dX7_undoes_82 : decode cX7_undoes 82 = .ok (.iload_n 1, 1) := dk_27 (dk_at dksX7_undoes_3 11 rfl rfl)
theorem dX7_undoes_83 : decode cX7_undoes 83 = .ok (.iaload, 1) := dk_46 (dk_at dksX7_undoes_3 12 rfl rfl)
theorem dX7_undoes_84 : decode cX7_undoes 84 = .ok (.iastore, 1) := dk_79 (dk_at dksX7_undoes_3 13 rfl rfl)
theorem dX7_undoes_85 : decode cX7_undoes 85 = .ok (.aload_n 0, 1) := dk_42 (dk_at dksX7_undoes_3 14 rfl rfl)
theorem dX7_undoes_86 : decode cX7_undoes 86 = .ok (.getfield 154, 3) := dk_180 0 154 (dk_at dksX7_undoes_3 15 rfl rfl)
theorem dX7_undoes_89 : decode cX7_undoes 89 = .ok (.iconst 1, 1) := dk_4 (dk_at dksX7_undoes_3 18 rfl rfl)
theorem dX7_undoes_90 : decode cX7_undoes 90 = .ok (.iconst 1, 1) := dk_4 (dk_at dksX7_undoes_3 19 rfl rfl)
theorem dX7_undoes_91 : decode cX7_undoes 91 = .ok (.aload_n 0, 1) := dk_42 (dk_at dksX7_undoes_3 20 rfl rfl)
theorem dX7_undoes_92 : decode cX7_undoes 92 = .ok (.getfield 154, 3) := dk_180 0 154 (dk_at dksX7_undoes_3 21 rfl rfl)
theorem dX7_undoes_95 : decode cX7_undoes 95 = .ok (.iconst 1, 1) := dk_4 (dk_at dksX7_undoes_4 0 rfl rfl)
theorem dX7_undoes_96 : decode cX7_undoes 96 = .ok (.iaload, 1) := dk_46 (dk_at dksX7_undoes_4 1 rfl rfl)
theorem dX7_undoes_97 : decode cX7_undoes 97 = .ok (.isub, 1) := dk_100 (dk_at dksX7_undoes_4 2 rfl rfl)
theorem dX7_undoes_98 : decode cX7_undoes 98 = .ok (.iastore, 1) := dk_79 (dk_at dksX7_undoes_4 3 rfl rfl)
theorem dX7_undoes_99 : decode cX7_undoes 99 = .ok (.return_, 1) := dk_177 (dk_at dksX7_undoes_4 4 rfl rfl)
abbrev cX7_kept : ByteArray := prog_25_method_86_code
def yX7_kept : MethodName := ⟨RX7, "kept", "(II)I"⟩
def dkwX7_kept_2 : List UInt8 := [167, 0, 4, 2, 172]
abbrev dktX7_kept_2 : List UInt8 := dkwX7_kept_2 ++ []
def dkwX7_kept_1 : List UInt8 := [20, 2, 93, 184, 1, 65, 153, 0, 19, 42, 180, 0, 154, 16, 25, 8, 27, 104, 96, 28, 96, 46]
abbrev dktX7_kept_1 : List UInt8 := dkwX7_kept_1 ++ dktX7_kept_2
def dkwX7_kept_0 : List UInt8 := [27, 133, 9, 42, 180, 0, 154, 16, 24, 46, 4, 100, 133, 184, 1, 65, 153, 0, 31, 28, 133, 9]
abbrev dktX7_kept_0 : List UInt8 := dkwX7_kept_0 ++ dktX7_kept_1
theorem dksX7_kept_0 : cX7_kept.data.toList.drop 0 = dktX7_kept_0 := by decide +kernel
theorem dksX7_kept_1 : cX7_kept.data.toList.drop 22 = dktX7_kept_1 := dk_seg dksX7_kept_0 22 rfl rfl
theorem dksX7_kept_2 : cX7_kept.data.toList.drop 44 = dktX7_kept_2 := dk_seg dksX7_kept_1 22 rfl rfl
theorem dX7_kept_0 : decode cX7_kept 0 = .ok (.iload_n 1, 1) := dk_27 (dk_at dksX7_kept_0 0 rfl rfl)
theorem dX7_kept_1 : decode cX7_kept 1 = .ok (.i2l, 1) := dk_133 (dk_at dksX7_kept_0 1 rfl rfl)
theorem dX7_kept_2 : decode cX7_kept 2 = .ok (.lconst 0, 1) := dk_9 (dk_at dksX7_kept_0 2 rfl rfl)
theorem dX7_kept_3 : decode cX7_kept 3 = .ok (.aload_n 0, 1) := dk_42 (dk_at dksX7_kept_0 3 rfl rfl)
theorem dX7_kept_4 : decode cX7_kept 4 = .ok (.getfield 154, 3) := dk_180 0 154 (dk_at dksX7_kept_0 4 rfl rfl)
theorem dX7_kept_7 : decode cX7_kept 7 = .ok (.bipush 24, 2) := dk_16 24 (dk_at dksX7_kept_0 7 rfl rfl)
theorem dX7_kept_9 : decode cX7_kept 9 = .ok (.iaload, 1) := dk_46 (dk_at dksX7_kept_0 9 rfl rfl)
theorem dX7_kept_10 : decode cX7_kept 10 = .ok (.iconst 1, 1) := dk_4 (dk_at dksX7_kept_0 10 rfl rfl)
theorem dX7_kept_11 : decode cX7_kept 11 = .ok (.isub, 1) := dk_100 (dk_at dksX7_kept_0 11 rfl rfl)
theorem dX7_kept_12 : decode cX7_kept 12 = .ok (.i2l, 1) := dk_133 (dk_at dksX7_kept_0 12 rfl rfl)
theorem dX7_kept_13 : decode cX7_kept 13 = .ok (.invokestatic 321, 3) := dk_184 1 65 (dk_at dksX7_kept_0 13 rfl rfl)
theorem dX7_kept_16 : decode cX7_kept 16 = .ok (.ifCond .eq 31, 3) := dk_153 0 31 (dk_at dksX7_kept_0 16 rfl rfl)
theorem dX7_kept_19 : decode cX7_kept 19 = .ok (.iload_n 2, 1) := dk_28 (dk_at dksX7_kept_0 19 rfl rfl)
theorem dX7_kept_20 : decode cX7_kept 20 = .ok (.i2l, 1) := dk_133 (dk_at dksX7_kept_0 20 rfl rfl)
theorem dX7_kept_21 : decode cX7_kept 21 = .ok (.lconst 0, 1) := dk_9 (dk_at dksX7_kept_0 21 rfl rfl)
theorem dX7_kept_22 : decode cX7_kept 22 = .ok (.ldc2_w 605, 3) := dk_20 2 93 (dk_at dksX7_kept_1 0 rfl rfl)
theorem dX7_kept_25 : decode cX7_kept 25 = .ok (.invokestatic 321, 3) := dk_184 1 65 (dk_at dksX7_kept_1 3 rfl rfl)
theorem dX7_kept_28 : decode cX7_kept 28 = .ok (.ifCond .eq 19, 3) := dk_153 0 19 (dk_at dksX7_kept_1 6 rfl rfl)
theorem dX7_kept_31 : decode cX7_kept 31 = .ok (.aload_n 0, 1) := dk_42 (dk_at dksX7_kept_1 9 rfl rfl)
theorem dX7_kept_32 : decode cX7_kept 32 = .ok (.getfield 154, 3) := dk_180 0 154 (dk_at dksX7_kept_1 10 rfl rfl)
theorem dX7_kept_35 : decode cX7_kept 35 = .ok (.bipush 25, 2) := dk_16 25 (dk_at dksX7_kept_1 13 rfl rfl)
theorem dX7_kept_37 : decode cX7_kept 37 = .ok (.iconst 5, 1) := dk_8 (dk_at dksX7_kept_1 15 rfl rfl)
theorem dX7_kept_38 : decode cX7_kept 38 = .ok (.iload_n 1, 1) := dk_27 (dk_at dksX7_kept_1 16 rfl rfl)
theorem dX7_kept_39 : decode cX7_kept 39 = .ok (.imul, 1) := dk_104 (dk_at dksX7_kept_1 17 rfl rfl)
theorem dX7_kept_40 : decode cX7_kept 40 = .ok (.iadd, 1) := dk_96 (dk_at dksX7_kept_1 18 rfl rfl)
theorem dX7_kept_41 : decode cX7_kept 41 = .ok (.iload_n 2, 1) := dk_28 (dk_at dksX7_kept_1 19 rfl rfl)
theorem dX7_kept_42 : decode cX7_kept 42 = .ok (.iadd, 1) := dk_96 (dk_at dksX7_kept_1 20 rfl rfl)
theorem dX7_kept_43 : decode cX7_kept 43 = .ok (.iaload, 1) := dk_46 (dk_at dksX7_kept_1 21 rfl rfl)
theorem dX7_kept_44 : decode cX7_kept 44 = .ok (.goto 4, 3) := dk_167 0 4 (dk_at dksX7_kept_2 0 rfl rfl)
theorem dX7_kept_47 : decode cX7_kept 47 = .ok (.iconst (-1), 1) := dk_2 (dk_at dksX7_kept_2 3 rfl rfl)
theorem dX7_kept_48 : decode cX7_kept 48 = .ok (.ireturn, 1) := dk_172 (dk_at dksX7_kept_2 4 rfl rfl)
abbrev cX7_balance : ByteArray := prog_25_method_87_code
def yX7_balance : MethodName := ⟨RX7, "balance", "(I)J"⟩
def dkwX7_balance_1 : List UInt8 := [167, 0, 6, 20, 2, 98, 173]
abbrev dktX7_balance_1 : List UInt8 := dkwX7_balance_1 ++ []
def dkwX7_balance_0 : List UInt8 := [42, 180, 1, 168, 153, 0, 22, 27, 133, 9, 10, 184, 1, 65, 153, 0, 12, 42, 27, 182, 1, 237, 133]
abbrev dktX7_balance_0 : List UInt8 := dkwX7_balance_0 ++ dktX7_balance_1
theorem dksX7_balance_0 : cX7_balance.data.toList.drop 0 = dktX7_balance_0 := by decide +kernel
theorem dksX7_balance_1 : cX7_balance.data.toList.drop 23 = dktX7_balance_1 := dk_seg dksX7_balance_0 23 rfl rfl
theorem dX7_balance_0 : decode cX7_balance 0 = .ok (.aload_n 0, 1) := dk_42 (dk_at dksX7_balance_0 0 rfl rfl)
theorem dX7_balance_1 : decode cX7_balance 1 = .ok (.getfield 424, 3) := dk_180 1 168 (dk_at dksX7_balance_0 1 rfl rfl)
theorem dX7_balance_4 : decode cX7_balance 4 = .ok (.ifCond .eq 22, 3) := dk_153 0 22 (dk_at dksX7_balance_0 4 rfl rfl)
theorem dX7_balance_7 : decode cX7_balance 7 = .ok (.iload_n 1, 1) := dk_27 (dk_at dksX7_balance_0 7 rfl rfl)
theorem dX7_balance_8 : decode cX7_balance 8 = .ok (.i2l, 1) := dk_133 (dk_at dksX7_balance_0 8 rfl rfl)
theorem dX7_balance_9 : decode cX7_balance 9 = .ok (.lconst 0, 1) := dk_9 (dk_at dksX7_balance_0 9 rfl rfl)
theorem dX7_balance_10 : decode cX7_balance 10 = .ok (.lconst 1, 1) := dk_10 (dk_at dksX7_balance_0 10 rfl rfl)
theorem dX7_balance_11 : decode cX7_balance 11 = .ok (.invokestatic 321, 3) := dk_184 1 65 (dk_at dksX7_balance_0 11 rfl rfl)
theorem dX7_balance_14 : decode cX7_balance 14 = .ok (.ifCond .eq 12, 3) := dk_153 0 12 (dk_at dksX7_balance_0 14 rfl rfl)
theorem dX7_balance_17 : decode cX7_balance 17 = .ok (.aload_n 0, 1) := dk_42 (dk_at dksX7_balance_0 17 rfl rfl)
theorem dX7_balance_18 : decode cX7_balance 18 = .ok (.iload_n 1, 1) := dk_27 (dk_at dksX7_balance_0 18 rfl rfl)
theorem dX7_balance_19 : decode cX7_balance 19 = .ok (.invokevirtual 493, 3) := dk_182 1 237 (dk_at dksX7_balance_0 19 rfl rfl)
theorem dX7_balance_22 : decode cX7_balance 22 = .ok (.i2l, 1) := dk_133 (dk_at dksX7_balance_0 22 rfl rfl)
theorem dX7_balance_23 : decode cX7_balance 23 = .ok (.goto 6, 3) := dk_167 0 6 (dk_at dksX7_balance_1 0 rfl rfl)
theorem dX7_balance_26 : decode cX7_balance 26 = .ok (.ldc2_w 610, 3) := dk_20 2 98 (dk_at dksX7_balance_1 3 rfl rfl)
theorem dX7_balance_29 : decode cX7_balance 29 = .ok (.lreturn, 1) := dk_173 (dk_at dksX7_balance_1 6 rfl rfl)
abbrev cX7_balanceOf : ByteArray := prog_25_method_56_code
def yX7_balanceOf : MethodName := ⟨RX7, "balanceOf", "(I)I"⟩
def dkwX7_balanceOf_2 : List UInt8 := [132, 3, 1, 167, 255, 211, 28, 172]
abbrev dktX7_balanceOf_2 : List UInt8 := dkwX7_balanceOf_2 ++ []
def dkwX7_balanceOf_1 : List UInt8 := [182, 1, 212, 27, 160, 0, 11, 42, 29, 182, 1, 234, 167, 0, 9, 42, 29, 182, 1, 234, 116, 96, 61]
abbrev dktX7_balanceOf_1 : List UInt8 := dkwX7_balanceOf_1 ++ dktX7_balanceOf_2
def dkwX7_balanceOf_0 : List UInt8 := [3, 61, 3, 62, 29, 42, 182, 1, 177, 162, 0, 43, 42, 29, 182, 1, 202, 154, 0, 29, 28, 42, 29]
abbrev dktX7_balanceOf_0 : List UInt8 := dkwX7_balanceOf_0 ++ dktX7_balanceOf_1
theorem dksX7_balanceOf_0 : cX7_balanceOf.data.toList.drop 0 = dktX7_balanceOf_0 := by decide +kernel
theorem dksX7_balanceOf_1 : cX7_balanceOf.data.toList.drop 23 = dktX7_balanceOf_1 := dk_seg dksX7_balanceOf_0 23 rfl rfl
theorem dksX7_balanceOf_2 : cX7_balanceOf.data.toList.drop 46 = dktX7_balanceOf_2 := dk_seg dksX7_balanceOf_1 23 rfl rfl
theorem dX7_balanceOf_0 : decode cX7_balanceOf 0 = .ok (.iconst 0, 1) := dk_3 (dk_at dksX7_balanceOf_0 0 rfl rfl)
theorem dX7_balanceOf_1 : decode cX7_balanceOf 1 = .ok (.istore_n 2, 1) := dk_61 (dk_at dksX7_balanceOf_0 1 rfl rfl)
theorem dX7_balanceOf_2 : decode cX7_balanceOf 2 = .ok (.iconst 0, 1) := dk_3 (dk_at dksX7_balanceOf_0 2 rfl rfl)
theorem dX7_balanceOf_3 : decode cX7_balanceOf 3 = .ok (.istore_n 3, 1) := dk_62 (dk_at dksX7_balanceOf_0 3 rfl rfl)
theorem dX7_balanceOf_4 : decode cX7_balanceOf 4 = .ok (.iload_n 3, 1) := dk_29 (dk_at dksX7_balanceOf_0 4 rfl rfl)
theorem dX7_balanceOf_5 : decode cX7_balanceOf 5 = .ok (.aload_n 0, 1) := dk_42 (dk_at dksX7_balanceOf_0 5 rfl rfl)
theorem dX7_balanceOf_6 : decode cX7_balanceOf 6 = .ok (.invokevirtual 433, 3) := dk_182 1 177 (dk_at dksX7_balanceOf_0 6 rfl rfl)
theorem dX7_balanceOf_9 : decode cX7_balanceOf 9 = .ok (.if_icmp .ge 43, 3) := dk_162 0 43 (dk_at dksX7_balanceOf_0 9 rfl rfl)
theorem dX7_balanceOf_12 : decode cX7_balanceOf 12 = .ok (.aload_n 0, 1) := dk_42 (dk_at dksX7_balanceOf_0 12 rfl rfl)
theorem dX7_balanceOf_13 : decode cX7_balanceOf 13 = .ok (.iload_n 3, 1) := dk_29 (dk_at dksX7_balanceOf_0 13 rfl rfl)
theorem dX7_balanceOf_14 : decode cX7_balanceOf 14 = .ok (.invokevirtual 458, 3) := dk_182 1 202 (dk_at dksX7_balanceOf_0 14 rfl rfl)
theorem dX7_balanceOf_17 : decode cX7_balanceOf 17 = .ok (.ifCond .ne 29, 3) := dk_154 0 29 (dk_at dksX7_balanceOf_0 17 rfl rfl)
theorem dX7_balanceOf_20 : decode cX7_balanceOf 20 = .ok (.iload_n 2, 1) := dk_28 (dk_at dksX7_balanceOf_0 20 rfl rfl)
theorem dX7_balanceOf_21 : decode cX7_balanceOf 21 = .ok (.aload_n 0, 1) := dk_42 (dk_at dksX7_balanceOf_0 21 rfl rfl)
theorem dX7_balanceOf_22 : decode cX7_balanceOf 22 = .ok (.iload_n 3, 1) := dk_29 (dk_at dksX7_balanceOf_0 22 rfl rfl)
theorem dX7_balanceOf_23 : decode cX7_balanceOf 23 = .ok (.invokevirtual 468, 3) := dk_182 1 212 (dk_at dksX7_balanceOf_1 0 rfl rfl)
theorem dX7_balanceOf_26 : decode cX7_balanceOf 26 = .ok (.iload_n 1, 1) := dk_27 (dk_at dksX7_balanceOf_1 3 rfl rfl)
theorem dX7_balanceOf_27 : decode cX7_balanceOf 27 = .ok (.if_icmp .ne 11, 3) := dk_160 0 11 (dk_at dksX7_balanceOf_1 4 rfl rfl)
theorem dX7_balanceOf_30 : decode cX7_balanceOf 30 = .ok (.aload_n 0, 1) := dk_42 (dk_at dksX7_balanceOf_1 7 rfl rfl)
theorem dX7_balanceOf_31 : decode cX7_balanceOf 31 = .ok (.iload_n 3, 1) := dk_29 (dk_at dksX7_balanceOf_1 8 rfl rfl)
theorem dX7_balanceOf_32 : decode cX7_balanceOf 32 = .ok (.invokevirtual 490, 3) := dk_182 1 234 (dk_at dksX7_balanceOf_1 9 rfl rfl)
theorem dX7_balanceOf_35 : decode cX7_balanceOf 35 = .ok (.goto 9, 3) := dk_167 0 9 (dk_at dksX7_balanceOf_1 12 rfl rfl)
theorem dX7_balanceOf_38 : decode cX7_balanceOf 38 = .ok (.aload_n 0, 1) := dk_42 (dk_at dksX7_balanceOf_1 15 rfl rfl)
theorem dX7_balanceOf_39 : decode cX7_balanceOf 39 = .ok (.iload_n 3, 1) := dk_29 (dk_at dksX7_balanceOf_1 16 rfl rfl)
theorem dX7_balanceOf_40 : decode cX7_balanceOf 40 = .ok (.invokevirtual 490, 3) := dk_182 1 234 (dk_at dksX7_balanceOf_1 17 rfl rfl)
theorem dX7_balanceOf_43 : decode cX7_balanceOf 43 = .ok (.ineg, 1) := dk_116 (dk_at dksX7_balanceOf_1 20 rfl rfl)
theorem dX7_balanceOf_44 : decode cX7_balanceOf 44 = .ok (.iadd, 1) := dk_96 (dk_at dksX7_balanceOf_1 21 rfl rfl)
theorem dX7_balanceOf_45 : decode cX7_balanceOf 45 = .ok (.istore_n 2, 1) := dk_61 (dk_at dksX7_balanceOf_1 22 rfl rfl)
theorem dX7_balanceOf_46 : decode cX7_balanceOf 46 = .ok (.iinc 3 1, 3) := dk_132 3 1 (dk_at dksX7_balanceOf_2 0 rfl rfl)
theorem dX7_balanceOf_49 : decode cX7_balanceOf 49 = .ok (.goto (-45), 3) := dk_167 255 211 (dk_at dksX7_balanceOf_2 3 rfl rfl)
theorem dX7_balanceOf_52 : decode cX7_balanceOf 52 = .ok (.iload_n 2, 1) := dk_28 (dk_at dksX7_balanceOf_2 6 rfl rfl)
theorem dX7_balanceOf_53 : decode cX7_balanceOf 53 = .ok (.ireturn, 1) := dk_172 (dk_at dksX7_balanceOf_2 7 rfl rfl)
abbrev cX7_worthOf : ByteArray := prog_25_method_41_code
def yX7_worthOf : MethodName := ⟨RX7, "worthOf", "(I)I"⟩
def dkwX7_worthOf_0 : List UInt8 := [42, 180, 0, 130, 16, 22, 7, 42, 27, 182, 1, 187, 104, 96, 46, 172]
abbrev dktX7_worthOf_0 : List UInt8 := dkwX7_worthOf_0 ++ []
theorem dksX7_worthOf_0 : cX7_worthOf.data.toList.drop 0 = dktX7_worthOf_0 := by decide +kernel
theorem dX7_worthOf_0 : decode cX7_worthOf 0 = .ok (.aload_n 0, 1) := dk_42 (dk_at dksX7_worthOf_0 0 rfl rfl)
theorem dX7_worthOf_1 : decode cX7_worthOf 1 = .ok (.getfield 130, 3) := dk_180 0 130 (dk_at dksX7_worthOf_0 1 rfl rfl)
theorem dX7_worthOf_4 : decode cX7_worthOf 4 = .ok (.bipush 22, 2) := dk_16 22 (dk_at dksX7_worthOf_0 4 rfl rfl)
theorem dX7_worthOf_6 : decode cX7_worthOf 6 = .ok (.iconst 4, 1) := dk_7 (dk_at dksX7_worthOf_0 6 rfl rfl)
theorem dX7_worthOf_7 : decode cX7_worthOf 7 = .ok (.aload_n 0, 1) := dk_42 (dk_at dksX7_worthOf_0 7 rfl rfl)
theorem dX7_worthOf_8 : decode cX7_worthOf 8 = .ok (.iload_n 1, 1) := dk_27 (dk_at dksX7_worthOf_0 8 rfl rfl)
theorem dX7_worthOf_9 : decode cX7_worthOf 9 = .ok (.invokevirtual 443, 3) := dk_182 1 187 (dk_at dksX7_worthOf_0 9 rfl rfl)
theorem dX7_worthOf_12 : decode cX7_worthOf 12 = .ok (.imul, 1) := dk_104 (dk_at dksX7_worthOf_0 12 rfl rfl)
theorem dX7_worthOf_13 : decode cX7_worthOf 13 = .ok (.iadd, 1) := dk_96 (dk_at dksX7_worthOf_0 13 rfl rfl)
theorem dX7_worthOf_14 : decode cX7_worthOf 14 = .ok (.iaload, 1) := dk_46 (dk_at dksX7_worthOf_0 14 rfl rfl)
theorem dX7_worthOf_15 : decode cX7_worthOf 15 = .ok (.ireturn, 1) := dk_172 (dk_at dksX7_worthOf_0 15 rfl rfl)
abbrev cX7_value : ByteArray := prog_25_method_88_code
def yX7_value : MethodName := ⟨RX7, "value", "(I)J"⟩
def dkwX7_value_1 : List UInt8 := [133, 167, 0, 6, 20, 2, 98, 173]
abbrev dktX7_value_1 : List UInt8 := dkwX7_value_1 ++ []
def dkwX7_value_0 : List UInt8 := [42, 180, 1, 168, 153, 0, 24, 27, 133, 9, 20, 2, 85, 184, 1, 65, 153, 0, 12, 42, 27, 182, 2, 6]
abbrev dktX7_value_0 : List UInt8 := dkwX7_value_0 ++ dktX7_value_1
theorem dksX7_value_0 : cX7_value.data.toList.drop 0 = dktX7_value_0 := by decide +kernel
theorem dksX7_value_1 : cX7_value.data.toList.drop 24 = dktX7_value_1 := dk_seg dksX7_value_0 24 rfl rfl
theorem dX7_value_0 : decode cX7_value 0 = .ok (.aload_n 0, 1) := dk_42 (dk_at dksX7_value_0 0 rfl rfl)
theorem dX7_value_1 : decode cX7_value 1 = .ok (.getfield 424, 3) := dk_180 1 168 (dk_at dksX7_value_0 1 rfl rfl)
theorem dX7_value_4 : decode cX7_value 4 = .ok (.ifCond .eq 24, 3) := dk_153 0 24 (dk_at dksX7_value_0 4 rfl rfl)
theorem dX7_value_7 : decode cX7_value 7 = .ok (.iload_n 1, 1) := dk_27 (dk_at dksX7_value_0 7 rfl rfl)
theorem dX7_value_8 : decode cX7_value 8 = .ok (.i2l, 1) := dk_133 (dk_at dksX7_value_0 8 rfl rfl)
theorem dX7_value_9 : decode cX7_value 9 = .ok (.lconst 0, 1) := dk_9 (dk_at dksX7_value_0 9 rfl rfl)
theorem dX7_value_10 : decode cX7_value 10 = .ok (.ldc2_w 597, 3) := dk_20 2 85 (dk_at dksX7_value_0 10 rfl rfl)
theorem dX7_value_13 : decode cX7_value 13 = .ok (.invokestatic 321, 3) := dk_184 1 65 (dk_at dksX7_value_0 13 rfl rfl)
theorem dX7_value_16 : decode cX7_value 16 = .ok (.ifCond .eq 12, 3) := dk_153 0 12 (dk_at dksX7_value_0 16 rfl rfl)
theorem dX7_value_19 : decode cX7_value 19 = .ok (.aload_n 0, 1) := dk_42 (dk_at dksX7_value_0 19 rfl rfl)
theorem dX7_value_20 : decode cX7_value 20 = .ok (.iload_n 1, 1) := dk_27 (dk_at dksX7_value_0 20 rfl rfl)
theorem dX7_value_21 : decode cX7_value 21 = .ok (.invokevirtual 518, 3) := dk_182 2 6 (dk_at dksX7_value_0 21 rfl rfl)
theorem dX7_value_24 : decode cX7_value 24 = .ok (.i2l, 1) := dk_133 (dk_at dksX7_value_1 0 rfl rfl)
theorem dX7_value_25 : decode cX7_value 25 = .ok (.goto 6, 3) := dk_167 0 6 (dk_at dksX7_value_1 1 rfl rfl)
theorem dX7_value_28 : decode cX7_value 28 = .ok (.ldc2_w 610, 3) := dk_20 2 98 (dk_at dksX7_value_1 4 rfl rfl)
theorem dX7_value_31 : decode cX7_value 31 = .ok (.lreturn, 1) := dk_173 (dk_at dksX7_value_1 7 rfl rfl)
abbrev cX7_valueBy : ByteArray := prog_25_method_61_code
def yX7_valueBy : MethodName := ⟨RX7, "valueBy", "(I)I"⟩
def dkwX7_valueBy_1 : List UInt8 := [5, 160, 0, 10, 42, 182, 1, 253, 167, 0, 7, 42, 182, 2, 0, 172]
abbrev dktX7_valueBy_1 : List UInt8 := dkwX7_valueBy_1 ++ []
def dkwX7_valueBy_0 : List UInt8 := [27, 154, 0, 10, 42, 182, 1, 244, 167, 0, 31, 27, 4, 160, 0, 10, 42, 182, 1, 250, 167, 0, 19, 27]
abbrev dktX7_valueBy_0 : List UInt8 := dkwX7_valueBy_0 ++ dktX7_valueBy_1
theorem dksX7_valueBy_0 : cX7_valueBy.data.toList.drop 0 = dktX7_valueBy_0 := by decide +kernel
theorem dksX7_valueBy_1 : cX7_valueBy.data.toList.drop 24 = dktX7_valueBy_1 := dk_seg dksX7_valueBy_0 24 rfl rfl
theorem dX7_valueBy_0 : decode cX7_valueBy 0 = .ok (.iload_n 1, 1) := dk_27 (dk_at dksX7_valueBy_0 0 rfl rfl)
theorem dX7_valueBy_1 : decode cX7_valueBy 1 = .ok (.ifCond .ne 10, 3) := dk_154 0 10 (dk_at dksX7_valueBy_0 1 rfl rfl)
theorem dX7_valueBy_4 : decode cX7_valueBy 4 = .ok (.aload_n 0, 1) := dk_42 (dk_at dksX7_valueBy_0 4 rfl rfl)
theorem dX7_valueBy_5 : decode cX7_valueBy 5 = .ok (.invokevirtual 500, 3) := dk_182 1 244 (dk_at dksX7_valueBy_0 5 rfl rfl)
theorem dX7_valueBy_8 : decode cX7_valueBy 8 = .ok (.goto 31, 3) := dk_167 0 31 (dk_at dksX7_valueBy_0 8 rfl rfl)
theorem dX7_valueBy_11 : decode cX7_valueBy 11 = .ok (.iload_n 1, 1) := dk_27 (dk_at dksX7_valueBy_0 11 rfl rfl)
theorem dX7_valueBy_12 : decode cX7_valueBy 12 = .ok (.iconst 1, 1) := dk_4 (dk_at dksX7_valueBy_0 12 rfl rfl)
theorem dX7_valueBy_13 : decode cX7_valueBy 13 = .ok (.if_icmp .ne 10, 3) := dk_160 0 10 (dk_at dksX7_valueBy_0 13 rfl rfl)
theorem dX7_valueBy_16 : decode cX7_valueBy 16 = .ok (.aload_n 0, 1) := dk_42 (dk_at dksX7_valueBy_0 16 rfl rfl)
theorem dX7_valueBy_17 : decode cX7_valueBy 17 = .ok (.invokevirtual 506, 3) := dk_182 1 250 (dk_at dksX7_valueBy_0 17 rfl rfl)
theorem dX7_valueBy_20 : decode cX7_valueBy 20 = .ok (.goto 19, 3) := dk_167 0 19 (dk_at dksX7_valueBy_0 20 rfl rfl)
theorem dX7_valueBy_23 : decode cX7_valueBy 23 = .ok (.iload_n 1, 1) := dk_27 (dk_at dksX7_valueBy_0 23 rfl rfl)
theorem dX7_valueBy_24 : decode cX7_valueBy 24 = .ok (.iconst 2, 1) := dk_5 (dk_at dksX7_valueBy_1 0 rfl rfl)
theorem dX7_valueBy_25 : decode cX7_valueBy 25 = .ok (.if_icmp .ne 10, 3) := dk_160 0 10 (dk_at dksX7_valueBy_1 1 rfl rfl)
theorem dX7_valueBy_28 : decode cX7_valueBy 28 = .ok (.aload_n 0, 1) := dk_42 (dk_at dksX7_valueBy_1 4 rfl rfl)
theorem dX7_valueBy_29 : decode cX7_valueBy 29 = .ok (.invokevirtual 509, 3) := dk_182 1 253 (dk_at dksX7_valueBy_1 5 rfl rfl)
theorem dX7_valueBy_32 : decode cX7_valueBy 32 = .ok (.goto 7, 3) := dk_167 0 7 (dk_at dksX7_valueBy_1 8 rfl rfl)
theorem dX7_valueBy_35 : decode cX7_valueBy 35 = .ok (.aload_n 0, 1) := dk_42 (dk_at dksX7_valueBy_1 11 rfl rfl)
theorem dX7_valueBy_36 : decode cX7_valueBy 36 = .ok (.invokevirtual 512, 3) := dk_182 2 0 (dk_at dksX7_valueBy_1 12 rfl rfl)
theorem dX7_valueBy_39 : decode cX7_valueBy 39 = .ok (.ireturn, 1) := dk_172 (dk_at dksX7_valueBy_1 15 rfl rfl)
abbrev cX7_value0 : ByteArray := prog_25_method_57_code
def yX7_value0 : MethodName := ⟨RX7, "value0", "()I"⟩
def dkwX7_value0_0 : List UInt8 := [42, 42, 180, 0, 154, 4, 46, 182, 1, 237, 172]
abbrev dktX7_value0_0 : List UInt8 := dkwX7_value0_0 ++ []
theorem dksX7_value0_0 : cX7_value0.data.toList.drop 0 = dktX7_value0_0 := by decide +kernel
theorem dX7_value0_0 : decode cX7_value0 0 = .ok (.aload_n 0, 1) := dk_42 (dk_at dksX7_value0_0 0 rfl rfl)
theorem dX7_value0_1 : decode cX7_value0 1 = .ok (.aload_n 0, 1) := dk_42 (dk_at dksX7_value0_0 1 rfl rfl)
theorem dX7_value0_2 : decode cX7_value0 2 = .ok (.getfield 154, 3) := dk_180 0 154 (dk_at dksX7_value0_0 2 rfl rfl)
theorem dX7_value0_5 : decode cX7_value0 5 = .ok (.iconst 1, 1) := dk_4 (dk_at dksX7_value0_0 5 rfl rfl)
theorem dX7_value0_6 : decode cX7_value0 6 = .ok (.iaload, 1) := dk_46 (dk_at dksX7_value0_0 6 rfl rfl)
theorem dX7_value0_7 : decode cX7_value0 7 = .ok (.invokevirtual 493, 3) := dk_182 1 237 (dk_at dksX7_value0_0 7 rfl rfl)
theorem dX7_value0_10 : decode cX7_value0 10 = .ok (.ireturn, 1) := dk_172 (dk_at dksX7_value0_0 10 rfl rfl)
abbrev cX7_value1 : ByteArray := prog_25_method_58_code
def yX7_value1 : MethodName := ⟨RX7, "value1", "()I"⟩
def dkwX7_value1_5 : List UInt8 := [132, 3, 1, 167, 255, 162, 27, 172]
abbrev dktX7_value1_5 : List UInt8 := dkwX7_value1_5 ++ []
def dkwX7_value1_4 : List UInt8 := [153, 0, 12, 21, 5, 27, 163, 0, 6, 167, 0, 8, 4, 61, 21, 5, 60, 132, 4, 1, 167, 255, 179]
abbrev dktX7_value1_4 : List UInt8 := dkwX7_value1_4 ++ dktX7_value1_5
def dkwX7_value1_3 : List UInt8 := [167, 0, 41, 42, 4, 29, 21, 4, 182, 1, 240, 42, 182, 1, 244, 116, 54, 5, 42, 4, 182, 1, 247, 28]
abbrev dktX7_value1_3 : List UInt8 := dkwX7_value1_3 ++ dktX7_value1_4
def dkwX7_value1_2 : List UInt8 := [182, 1, 212, 42, 180, 0, 154, 4, 46, 160, 0, 54, 42, 29, 21, 4, 182, 1, 218, 154, 0, 6]
abbrev dktX7_value1_2 : List UInt8 := dkwX7_value1_2 ++ dktX7_value1_3
def dkwX7_value1_1 : List UInt8 := [29, 42, 182, 1, 177, 162, 0, 92, 3, 54, 4, 21, 4, 42, 182, 1, 215, 162, 0, 74, 42, 29]
abbrev dktX7_value1_1 : List UInt8 := dkwX7_value1_1 ++ dktX7_value1_2
def dkwX7_value1_0 : List UInt8 := [42, 42, 180, 0, 154, 4, 46, 182, 1, 237, 60, 42, 182, 1, 228, 153, 0, 5, 27, 172, 3, 61, 3, 62]
abbrev dktX7_value1_0 : List UInt8 := dkwX7_value1_0 ++ dktX7_value1_1
theorem dksX7_value1_0 : cX7_value1.data.toList.drop 0 = dktX7_value1_0 := by decide +kernel
theorem dksX7_value1_1 : cX7_value1.data.toList.drop 24 = dktX7_value1_1 := dk_seg dksX7_value1_0 24 rfl rfl
theorem dksX7_value1_2 : cX7_value1.data.toList.drop 46 = dktX7_value1_2 := dk_seg dksX7_value1_1 22 rfl rfl
theorem dksX7_value1_3 : cX7_value1.data.toList.drop 68 = dktX7_value1_3 := dk_seg dksX7_value1_2 22 rfl rfl
theorem dksX7_value1_4 : cX7_value1.data.toList.drop 92 = dktX7_value1_4 := dk_seg dksX7_value1_3 24 rfl rfl
theorem dksX7_value1_5 : cX7_value1.data.toList.drop 115 = dktX7_value1_5 := dk_seg dksX7_value1_4 23 rfl rfl
theorem dX7_value1_0 : decode cX7_value1 0 = .ok (.aload_n 0, 1) := dk_42 (dk_at dksX7_value1_0 0 rfl rfl)
theorem dX7_value1_1 : decode cX7_value1 1 = .ok (.aload_n 0, 1) := dk_42 (dk_at dksX7_value1_0 1 rfl rfl)
theorem dX7_value1_2 : decode cX7_value1 2 = .ok (.getfield 154, 3) := dk_180 0 154 (dk_at dksX7_value1_0 2 rfl rfl)
theorem dX7_value1_5 : decode cX7_value1 5 = .ok (.iconst 1, 1) := dk_4 (dk_at dksX7_value1_0 5 rfl rfl)
theorem dX7_value1_6 : decode cX7_value1 6 = .ok (.iaload, 1) := dk_46 (dk_at dksX7_value1_0 6 rfl rfl)
theorem dX7_value1_7 : decode cX7_value1 7 = .ok (.invokevirtual 493, 3) := dk_182 1 237 (dk_at dksX7_value1_0 7 rfl rfl)
theorem dX7_value1_10 : decode cX7_value1 10 = .ok (.istore_n 1, 1) := dk_60 (dk_at dksX7_value1_0 10 rfl rfl)
theorem dX7_value1_11 : decode cX7_value1 11 = .ok (.aload_n 0, 1) := dk_42 (dk_at dksX7_value1_0 11 rfl rfl)
theorem dX7_value1_12 : decode cX7_value1 12 = .ok (.invokevirtual 484, 3) := dk_182 1 228 (dk_at dksX7_value1_0 12 rfl rfl)
theorem dX7_value1_15 : decode cX7_value1 15 = .ok (.ifCond .eq 5, 3) := dk_153 0 5 (dk_at dksX7_value1_0 15 rfl rfl)
theorem dX7_value1_18 : decode cX7_value1 18 = .ok (.iload_n 1, 1) := dk_27 (dk_at dksX7_value1_0 18 rfl rfl)
theorem dX7_value1_19 : decode cX7_value1 19 = .ok (.ireturn, 1) := dk_172 (dk_at dksX7_value1_0 19 rfl rfl)
theorem dX7_value1_20 : decode cX7_value1 20 = .ok (.iconst 0, 1) := dk_3 (dk_at dksX7_value1_0 20 rfl rfl)
theorem dX7_value1_21 : decode cX7_value1 21 = .ok (.istore_n 2, 1) := dk_61 (dk_at dksX7_value1_0 21 rfl rfl)
theorem dX7_value1_22 : decode cX7_value1 22 = .ok (.iconst 0, 1) := dk_3 (dk_at dksX7_value1_0 22 rfl rfl)
theorem dX7_value1_23 : decode cX7_value1 23 = .ok (.istore_n 3, 1) := dk_62 (dk_at dksX7_value1_0 23 rfl rfl)
theorem dX7_value1_24 : decode cX7_value1 24 = .ok (.iload_n 3, 1) := dk_29 (dk_at dksX7_value1_1 0 rfl rfl)
theorem dX7_value1_25 : decode cX7_value1 25 = .ok (.aload_n 0, 1) := dk_42 (dk_at dksX7_value1_1 1 rfl rfl)
theorem dX7_value1_26 : decode cX7_value1 26 = .ok (.invokevirtual 433, 3) := dk_182 1 177 (dk_at dksX7_value1_1 2 rfl rfl)
theorem dX7_value1_29 : decode cX7_value1 29 = .ok (.if_icmp .ge 92, 3) := dk_162 0 92 (dk_at dksX7_value1_1 5 rfl rfl)
theorem dX7_value1_32 : decode cX7_value1 32 = .ok (.iconst 0, 1) := dk_3 (dk_at dksX7_value1_1 8 rfl rfl)
theorem dX7_value1_33 : decode cX7_value1 33 = .ok (.istore 4, 2) := dk_54 4 (dk_at dksX7_value1_1 9 rfl rfl)
theorem dX7_value1_35 : decode cX7_value1 35 = .ok (.iload 4, 2) := dk_21 4 (dk_at dksX7_value1_1 11 rfl rfl)
theorem dX7_value1_37 : decode cX7_value1 37 = .ok (.aload_n 0, 1) := dk_42 (dk_at dksX7_value1_1 13 rfl rfl)
theorem dX7_value1_38 : decode cX7_value1 38 = .ok (.invokevirtual 471, 3) := dk_182 1 215 (dk_at dksX7_value1_1 14 rfl rfl)
theorem dX7_value1_41 : decode cX7_value1 41 = .ok (.if_icmp .ge 74, 3) := dk_162 0 74 (dk_at dksX7_value1_1 17 rfl rfl)
theorem dX7_value1_44 : decode cX7_value1 44 = .ok (.aload_n 0, 1) := dk_42 (dk_at dksX7_value1_1 20 rfl rfl)
theorem dX7_value1_45 : decode cX7_value1 45 = .ok (.iload_n 3, 1) := dk_29 (dk_at dksX7_value1_1 21 rfl rfl)
theorem dX7_value1_46 : decode cX7_value1 46 = .ok (.invokevirtual 468, 3) := dk_182 1 212 (dk_at dksX7_value1_2 0 rfl rfl)
theorem dX7_value1_49 : decode cX7_value1 49 = .ok (.aload_n 0, 1) := dk_42 (dk_at dksX7_value1_2 3 rfl rfl)
theorem dX7_value1_50 : decode cX7_value1 50 = .ok (.getfield 154, 3) := dk_180 0 154 (dk_at dksX7_value1_2 4 rfl rfl)
theorem dX7_value1_53 : decode cX7_value1 53 = .ok (.iconst 1, 1) := dk_4 (dk_at dksX7_value1_2 7 rfl rfl)
theorem dX7_value1_54 : decode cX7_value1 54 = .ok (.iaload, 1) := dk_46 (dk_at dksX7_value1_2 8 rfl rfl)
theorem dX7_value1_55 : decode cX7_value1 55 = .ok (.if_icmp .ne 54, 3) := dk_160 0 54 (dk_at dksX7_value1_2 9 rfl rfl)
theorem dX7_value1_58 : decode cX7_value1 58 = .ok (.aload_n 0, 1) := dk_42 (dk_at dksX7_value1_2 12 rfl rfl)
theorem dX7_value1_59 : decode cX7_value1 59 = .ok (.iload_n 3, 1) := dk_29 (dk_at dksX7_value1_2 13 rfl rfl)
theorem dX7_value1_60 : decode cX7_value1 60 = .ok (.iload 4, 2) := dk_21 4 (dk_at dksX7_value1_2 14 rfl rfl)
theorem dX7_value1_62 : decode cX7_value1 62 = .ok (.invokevirtual 474, 3) := dk_182 1 218 (dk_at dksX7_value1_2 16 rfl rfl)
theorem dX7_value1_65 : decode cX7_value1 65 = .ok (.ifCond .ne 6, 3) := dk_154 0 6 (dk_at dksX7_value1_2 19 rfl rfl)
theorem dX7_value1_68 : decode cX7_value1 68 = .ok (.goto 41, 3) := dk_167 0 41 (dk_at dksX7_value1_3 0 rfl rfl)
theorem dX7_value1_71 : decode cX7_value1 71 = .ok (.aload_n 0, 1) := dk_42 (dk_at dksX7_value1_3 3 rfl rfl)
theorem dX7_value1_72 : decode cX7_value1 72 = .ok (.iconst 1, 1) := dk_4 (dk_at dksX7_value1_3 4 rfl rfl)
theorem dX7_value1_73 : decode cX7_value1 73 = .ok (.iload_n 3, 1) := dk_29 (dk_at dksX7_value1_3 5 rfl rfl)
theorem dX7_value1_74 : decode cX7_value1 74 = .ok (.iload 4, 2) := dk_21 4 (dk_at dksX7_value1_3 6 rfl rfl)
theorem dX7_value1_76 : decode cX7_value1 76 = .ok (.invokevirtual 496, 3) := dk_182 1 240 (dk_at dksX7_value1_3 8 rfl rfl)
theorem dX7_value1_79 : decode cX7_value1 79 = .ok (.aload_n 0, 1) := dk_42 (dk_at dksX7_value1_3 11 rfl rfl)
theorem dX7_value1_80 : decode cX7_value1 80 = .ok (.invokevirtual 500, 3) := dk_182 1 244 (dk_at dksX7_value1_3 12 rfl rfl)
theorem dX7_value1_83 : decode cX7_value1 83 = .ok (.ineg, 1) := dk_116 (dk_at dksX7_value1_3 15 rfl rfl)
theorem dX7_value1_84 : decode cX7_value1 84 = .ok (.istore 5, 2) := dk_54 5 (dk_at dksX7_value1_3 16 rfl rfl)
theorem dX7_value1_86 : decode cX7_value1 86 = .ok (.aload_n 0, 1) := dk_42 (dk_at dksX7_value1_3 18 rfl rfl)
theorem dX7_value1_87 : decode cX7_value1 87 = .ok (.iconst 1, 1) := dk_4 (dk_at dksX7_value1_3 19 rfl rfl)
theorem dX7_value1_88 : decode cX7_value1 88 = .ok (.invokevirtual 503, 3) := dk_182 1 247 (dk_at dksX7_value1_3 20 rfl rfl)
theorem dX7_value1_91 : decode cX7_value1 91 = .ok (.iload_n 2, 1) := dk_28 (dk_at dksX7_value1_3 23 rfl rfl)
theorem dX7_value1_92 : decode cX7_value1 92 = .ok (.ifCond .eq 12, 3) := dk_153 0 12 (dk_at dksX7_value1_4 0 rfl rfl)
theorem dX7_value1_95 : decode cX7_value1 95 = .ok (.iload 5, 2) := dk_21 5 (dk_at dksX7_value1_4 3 rfl rfl)
theorem dX7_value1_97 : decode cX7_value1 97 = .ok (.iload_n 1, 1) := dk_27 (dk_at dksX7_value1_4 5 rfl rfl)
theorem dX7_value1_98 : decode cX7_value1 98 = .ok (.if_icmp .gt 6, 3) := dk_163 0 6 (dk_at dksX7_value1_4 6 rfl rfl)
theorem dX7_value1_101 : decode cX7_value1 101 = .ok (.goto 8, 3) := dk_167 0 8 (dk_at dksX7_value1_4 9 rfl rfl)
theorem dX7_value1_104 : decode cX7_value1 104 = .ok (.iconst 1, 1) := dk_4 (dk_at dksX7_value1_4 12 rfl rfl)
theorem dX7_value1_105 : decode cX7_value1 105 = .ok (.istore_n 2, 1) := dk_61 (dk_at dksX7_value1_4 13 rfl rfl)
theorem dX7_value1_106 : decode cX7_value1 106 = .ok (.iload 5, 2) := dk_21 5 (dk_at dksX7_value1_4 14 rfl rfl)
theorem dX7_value1_108 : decode cX7_value1 108 = .ok (.istore_n 1, 1) := dk_60 (dk_at dksX7_value1_4 16 rfl rfl)
theorem dX7_value1_109 : decode cX7_value1 109 = .ok (.iinc 4 1, 3) := dk_132 4 1 (dk_at dksX7_value1_4 17 rfl rfl)
theorem dX7_value1_112 : decode cX7_value1 112 = .ok (.goto (-77), 3) := dk_167 255 179 (dk_at dksX7_value1_4 20 rfl rfl)
theorem dX7_value1_115 : decode cX7_value1 115 = .ok (.iinc 3 1, 3) := dk_132 3 1 (dk_at dksX7_value1_5 0 rfl rfl)
theorem dX7_value1_118 : decode cX7_value1 118 = .ok (.goto (-94), 3) := dk_167 255 162 (dk_at dksX7_value1_5 3 rfl rfl)
theorem dX7_value1_121 : decode cX7_value1 121 = .ok (.iload_n 1, 1) := dk_27 (dk_at dksX7_value1_5 6 rfl rfl)
theorem dX7_value1_122 : decode cX7_value1 122 = .ok (.ireturn, 1) := dk_172 (dk_at dksX7_value1_5 7 rfl rfl)
abbrev cX7_value2 : ByteArray := prog_25_method_59_code
def yX7_value2 : MethodName := ⟨RX7, "value2", "()I"⟩
def dkwX7_value2_5 : List UInt8 := [132, 3, 1, 167, 255, 162, 27, 172]
abbrev dktX7_value2_5 : List UInt8 := dkwX7_value2_5 ++ []
def dkwX7_value2_4 : List UInt8 := [153, 0, 12, 21, 5, 27, 163, 0, 6, 167, 0, 8, 4, 61, 21, 5, 60, 132, 4, 1, 167, 255, 179]
abbrev dktX7_value2_4 : List UInt8 := dkwX7_value2_4 ++ dktX7_value2_5
def dkwX7_value2_3 : List UInt8 := [167, 0, 41, 42, 5, 29, 21, 4, 182, 1, 240, 42, 182, 1, 250, 116, 54, 5, 42, 5, 182, 1, 247, 28]
abbrev dktX7_value2_3 : List UInt8 := dkwX7_value2_3 ++ dktX7_value2_4
def dkwX7_value2_2 : List UInt8 := [182, 1, 212, 42, 180, 0, 154, 4, 46, 160, 0, 54, 42, 29, 21, 4, 182, 1, 218, 154, 0, 6]
abbrev dktX7_value2_2 : List UInt8 := dkwX7_value2_2 ++ dktX7_value2_3
def dkwX7_value2_1 : List UInt8 := [29, 42, 182, 1, 177, 162, 0, 92, 3, 54, 4, 21, 4, 42, 182, 1, 215, 162, 0, 74, 42, 29]
abbrev dktX7_value2_1 : List UInt8 := dkwX7_value2_1 ++ dktX7_value2_2
def dkwX7_value2_0 : List UInt8 := [42, 42, 180, 0, 154, 4, 46, 182, 1, 237, 60, 42, 182, 1, 228, 153, 0, 5, 27, 172, 3, 61, 3, 62]
abbrev dktX7_value2_0 : List UInt8 := dkwX7_value2_0 ++ dktX7_value2_1
theorem dksX7_value2_0 : cX7_value2.data.toList.drop 0 = dktX7_value2_0 := by decide +kernel
theorem dksX7_value2_1 : cX7_value2.data.toList.drop 24 = dktX7_value2_1 := dk_seg dksX7_value2_0 24 rfl rfl
theorem dksX7_value2_2 : cX7_value2.data.toList.drop 46 = dktX7_value2_2 := dk_seg dksX7_value2_1 22 rfl rfl
theorem dksX7_value2_3 : cX7_value2.data.toList.drop 68 = dktX7_value2_3 := dk_seg dksX7_value2_2 22 rfl rfl
theorem dksX7_value2_4 : cX7_value2.data.toList.drop 92 = dktX7_value2_4 := dk_seg dksX7_value2_3 24 rfl rfl
theorem dksX7_value2_5 : cX7_value2.data.toList.drop 115 = dktX7_value2_5 := dk_seg dksX7_value2_4 23 rfl rfl
theorem dX7_value2_0 : decode cX7_value2 0 = .ok (.aload_n 0, 1) := dk_42 (dk_at dksX7_value2_0 0 rfl rfl)
theorem dX7_value2_1 : decode cX7_value2 1 = .ok (.aload_n 0, 1) := dk_42 (dk_at dksX7_value2_0 1 rfl rfl)
theorem dX7_value2_2 : decode cX7_value2 2 = .ok (.getfield 154, 3) := dk_180 0 154 (dk_at dksX7_value2_0 2 rfl rfl)
theorem dX7_value2_5 : decode cX7_value2 5 = .ok (.iconst 1, 1) := dk_4 (dk_at dksX7_value2_0 5 rfl rfl)
theorem dX7_value2_6 : decode cX7_value2 6 = .ok (.iaload, 1) := dk_46 (dk_at dksX7_value2_0 6 rfl rfl)
theorem dX7_value2_7 : decode cX7_value2 7 = .ok (.invokevirtual 493, 3) := dk_182 1 237 (dk_at dksX7_value2_0 7 rfl rfl)
theorem dX7_value2_10 : decode cX7_value2 10 = .ok (.istore_n 1, 1) := dk_60 (dk_at dksX7_value2_0 10 rfl rfl)
theorem dX7_value2_11 : decode cX7_value2 11 = .ok (.aload_n 0, 1) := dk_42 (dk_at dksX7_value2_0 11 rfl rfl)
theorem dX7_value2_12 : decode cX7_value2 12 = .ok (.invokevirtual 484, 3) := dk_182 1 228 (dk_at dksX7_value2_0 12 rfl rfl)
theorem dX7_value2_15 : decode cX7_value2 15 = .ok (.ifCond .eq 5, 3) := dk_153 0 5 (dk_at dksX7_value2_0 15 rfl rfl)
theorem dX7_value2_18 : decode cX7_value2 18 = .ok (.iload_n 1, 1) := dk_27 (dk_at dksX7_value2_0 18 rfl rfl)
theorem dX7_value2_19 : decode cX7_value2 19 = .ok (.ireturn, 1) := dk_172 (dk_at dksX7_value2_0 19 rfl rfl)
theorem dX7_value2_20 : decode cX7_value2 20 = .ok (.iconst 0, 1) := dk_3 (dk_at dksX7_value2_0 20 rfl rfl)
theorem dX7_value2_21 : decode cX7_value2 21 = .ok (.istore_n 2, 1) := dk_61 (dk_at dksX7_value2_0 21 rfl rfl)
theorem dX7_value2_22 : decode cX7_value2 22 = .ok (.iconst 0, 1) := dk_3 (dk_at dksX7_value2_0 22 rfl rfl)
theorem dX7_value2_23 : decode cX7_value2 23 = .ok (.istore_n 3, 1) := dk_62 (dk_at dksX7_value2_0 23 rfl rfl)
theorem dX7_value2_24 : decode cX7_value2 24 = .ok (.iload_n 3, 1) := dk_29 (dk_at dksX7_value2_1 0 rfl rfl)
theorem dX7_value2_25 : decode cX7_value2 25 = .ok (.aload_n 0, 1) := dk_42 (dk_at dksX7_value2_1 1 rfl rfl)
theorem dX7_value2_26 : decode cX7_value2 26 = .ok (.invokevirtual 433, 3) := dk_182 1 177 (dk_at dksX7_value2_1 2 rfl rfl)
theorem dX7_value2_29 : decode cX7_value2 29 = .ok (.if_icmp .ge 92, 3) := dk_162 0 92 (dk_at dksX7_value2_1 5 rfl rfl)
theorem dX7_value2_32 : decode cX7_value2 32 = .ok (.iconst 0, 1) := dk_3 (dk_at dksX7_value2_1 8 rfl rfl)
theorem dX7_value2_33 : decode cX7_value2 33 = .ok (.istore 4, 2) := dk_54 4 (dk_at dksX7_value2_1 9 rfl rfl)
theorem dX7_value2_35 : decode cX7_value2 35 = .ok (.iload 4, 2) := dk_21 4 (dk_at dksX7_value2_1 11 rfl rfl)
theorem dX7_value2_37 : decode cX7_value2 37 = .ok (.aload_n 0, 1) := dk_42 (dk_at dksX7_value2_1 13 rfl rfl)
theorem dX7_value2_38 : decode cX7_value2 38 = .ok (.invokevirtual 471, 3) := dk_182 1 215 (dk_at dksX7_value2_1 14 rfl rfl)
theorem dX7_value2_41 : decode cX7_value2 41 = .ok (.if_icmp .ge 74, 3) := dk_162 0 74 (dk_at dksX7_value2_1 17 rfl rfl)
theorem dX7_value2_44 : decode cX7_value2 44 = .ok (.aload_n 0, 1) := dk_42 (dk_at dksX7_value2_1 20 rfl rfl)
theorem dX7_value2_45 : decode cX7_value2 45 = .ok (.iload_n 3, 1) := dk_29 (dk_at dksX7_value2_1 21 rfl rfl)
theorem dX7_value2_46 : decode cX7_value2 46 = .ok (.invokevirtual 468, 3) := dk_182 1 212 (dk_at dksX7_value2_2 0 rfl rfl)
theorem dX7_value2_49 : decode cX7_value2 49 = .ok (.aload_n 0, 1) := dk_42 (dk_at dksX7_value2_2 3 rfl rfl)
theorem dX7_value2_50 : decode cX7_value2 50 = .ok (.getfield 154, 3) := dk_180 0 154 (dk_at dksX7_value2_2 4 rfl rfl)
theorem dX7_value2_53 : decode cX7_value2 53 = .ok (.iconst 1, 1) := dk_4 (dk_at dksX7_value2_2 7 rfl rfl)
theorem dX7_value2_54 : decode cX7_value2 54 = .ok (.iaload, 1) := dk_46 (dk_at dksX7_value2_2 8 rfl rfl)
theorem dX7_value2_55 : decode cX7_value2 55 = .ok (.if_icmp .ne 54, 3) := dk_160 0 54 (dk_at dksX7_value2_2 9 rfl rfl)
theorem dX7_value2_58 : decode cX7_value2 58 = .ok (.aload_n 0, 1) := dk_42 (dk_at dksX7_value2_2 12 rfl rfl)
theorem dX7_value2_59 : decode cX7_value2 59 = .ok (.iload_n 3, 1) := dk_29 (dk_at dksX7_value2_2 13 rfl rfl)
theorem dX7_value2_60 : decode cX7_value2 60 = .ok (.iload 4, 2) := dk_21 4 (dk_at dksX7_value2_2 14 rfl rfl)
theorem dX7_value2_62 : decode cX7_value2 62 = .ok (.invokevirtual 474, 3) := dk_182 1 218 (dk_at dksX7_value2_2 16 rfl rfl)
theorem dX7_value2_65 : decode cX7_value2 65 = .ok (.ifCond .ne 6, 3) := dk_154 0 6 (dk_at dksX7_value2_2 19 rfl rfl)
theorem dX7_value2_68 : decode cX7_value2 68 = .ok (.goto 41, 3) := dk_167 0 41 (dk_at dksX7_value2_3 0 rfl rfl)
theorem dX7_value2_71 : decode cX7_value2 71 = .ok (.aload_n 0, 1) := dk_42 (dk_at dksX7_value2_3 3 rfl rfl)
theorem dX7_value2_72 : decode cX7_value2 72 = .ok (.iconst 2, 1) := dk_5 (dk_at dksX7_value2_3 4 rfl rfl)
theorem dX7_value2_73 : decode cX7_value2 73 = .ok (.iload_n 3, 1) := dk_29 (dk_at dksX7_value2_3 5 rfl rfl)
theorem dX7_value2_74 : decode cX7_value2 74 = .ok (.iload 4, 2) := dk_21 4 (dk_at dksX7_value2_3 6 rfl rfl)
theorem dX7_value2_76 : decode cX7_value2 76 = .ok (.invokevirtual 496, 3) := dk_182 1 240 (dk_at dksX7_value2_3 8 rfl rfl)
theorem dX7_value2_79 : decode cX7_value2 79 = .ok (.aload_n 0, 1) := dk_42 (dk_at dksX7_value2_3 11 rfl rfl)
theorem dX7_value2_80 : decode cX7_value2 80 = .ok (.invokevirtual 506, 3) := dk_182 1 250 (dk_at dksX7_value2_3 12 rfl rfl)
theorem dX7_value2_83 : decode cX7_value2 83 = .ok (.ineg, 1) := dk_116 (dk_at dksX7_value2_3 15 rfl rfl)
theorem dX7_value2_84 : decode cX7_value2 84 = .ok (.istore 5, 2) := dk_54 5 (dk_at dksX7_value2_3 16 rfl rfl)
theorem dX7_value2_86 : decode cX7_value2 86 = .ok (.aload_n 0, 1) := dk_42 (dk_at dksX7_value2_3 18 rfl rfl)
theorem dX7_value2_87 : decode cX7_value2 87 = .ok (.iconst 2, 1) := dk_5 (dk_at dksX7_value2_3 19 rfl rfl)
theorem dX7_value2_88 : decode cX7_value2 88 = .ok (.invokevirtual 503, 3) := dk_182 1 247 (dk_at dksX7_value2_3 20 rfl rfl)
theorem dX7_value2_91 : decode cX7_value2 91 = .ok (.iload_n 2, 1) := dk_28 (dk_at dksX7_value2_3 23 rfl rfl)
theorem dX7_value2_92 : decode cX7_value2 92 = .ok (.ifCond .eq 12, 3) := dk_153 0 12 (dk_at dksX7_value2_4 0 rfl rfl)
theorem dX7_value2_95 : decode cX7_value2 95 = .ok (.iload 5, 2) := dk_21 5 (dk_at dksX7_value2_4 3 rfl rfl)
theorem dX7_value2_97 : decode cX7_value2 97 = .ok (.iload_n 1, 1) := dk_27 (dk_at dksX7_value2_4 5 rfl rfl)
theorem dX7_value2_98 : decode cX7_value2 98 = .ok (.if_icmp .gt 6, 3) := dk_163 0 6 (dk_at dksX7_value2_4 6 rfl rfl)
theorem dX7_value2_101 : decode cX7_value2 101 = .ok (.goto 8, 3) := dk_167 0 8 (dk_at dksX7_value2_4 9 rfl rfl)
theorem dX7_value2_104 : decode cX7_value2 104 = .ok (.iconst 1, 1) := dk_4 (dk_at dksX7_value2_4 12 rfl rfl)
theorem dX7_value2_105 : decode cX7_value2 105 = .ok (.istore_n 2, 1) := dk_61 (dk_at dksX7_value2_4 13 rfl rfl)
theorem dX7_value2_106 : decode cX7_value2 106 = .ok (.iload 5, 2) := dk_21 5 (dk_at dksX7_value2_4 14 rfl rfl)
theorem dX7_value2_108 : decode cX7_value2 108 = .ok (.istore_n 1, 1) := dk_60 (dk_at dksX7_value2_4 16 rfl rfl)
theorem dX7_value2_109 : decode cX7_value2 109 = .ok (.iinc 4 1, 3) := dk_132 4 1 (dk_at dksX7_value2_4 17 rfl rfl)
theorem dX7_value2_112 : decode cX7_value2 112 = .ok (.goto (-77), 3) := dk_167 255 179 (dk_at dksX7_value2_4 20 rfl rfl)
theorem dX7_value2_115 : decode cX7_value2 115 = .ok (.iinc 3 1, 3) := dk_132 3 1 (dk_at dksX7_value2_5 0 rfl rfl)
theorem dX7_value2_118 : decode cX7_value2 118 = .ok (.goto (-94), 3) := dk_167 255 162 (dk_at dksX7_value2_5 3 rfl rfl)
theorem dX7_value2_121 : decode cX7_value2 121 = .ok (.iload_n 1, 1) := dk_27 (dk_at dksX7_value2_5 6 rfl rfl)
theorem dX7_value2_122 : decode cX7_value2 122 = .ok (.ireturn, 1) := dk_172 (dk_at dksX7_value2_5 7 rfl rfl)
abbrev cX7_value3 : ByteArray := prog_25_method_60_code
def yX7_value3 : MethodName := ⟨RX7, "value3", "()I"⟩
def dkwX7_value3_5 : List UInt8 := [132, 3, 1, 167, 255, 162, 27, 172]
abbrev dktX7_value3_5 : List UInt8 := dkwX7_value3_5 ++ []
def dkwX7_value3_4 : List UInt8 := [153, 0, 12, 21, 5, 27, 163, 0, 6, 167, 0, 8, 4, 61, 21, 5, 60, 132, 4, 1, 167, 255, 179]
abbrev dktX7_value3_4 : List UInt8 := dkwX7_value3_4 ++ dktX7_value3_5
def dkwX7_value3_3 : List UInt8 := [167, 0, 41, 42, 6, 29, 21, 4, 182, 1, 240, 42, 182, 1, 253, 116, 54, 5, 42, 6, 182, 1, 247, 28]
abbrev dktX7_value3_3 : List UInt8 := dkwX7_value3_3 ++ dktX7_value3_4
def dkwX7_value3_2 : List UInt8 := [182, 1, 212, 42, 180, 0, 154, 4, 46, 160, 0, 54, 42, 29, 21, 4, 182, 1, 218, 154, 0, 6]
abbrev dktX7_value3_2 : List UInt8 := dkwX7_value3_2 ++ dktX7_value3_3
def dkwX7_value3_1 : List UInt8 := [29, 42, 182, 1, 177, 162, 0, 92, 3, 54, 4, 21, 4, 42, 182, 1, 215, 162, 0, 74, 42, 29]
abbrev dktX7_value3_1 : List UInt8 := dkwX7_value3_1 ++ dktX7_value3_2
def dkwX7_value3_0 : List UInt8 := [42, 42, 180, 0, 154, 4, 46, 182, 1, 237, 60, 42, 182, 1, 228, 153, 0, 5, 27, 172, 3, 61, 3, 62]
abbrev dktX7_value3_0 : List UInt8 := dkwX7_value3_0 ++ dktX7_value3_1
theorem dksX7_value3_0 : cX7_value3.data.toList.drop 0 = dktX7_value3_0 := by decide +kernel
theorem dksX7_value3_1 : cX7_value3.data.toList.drop 24 = dktX7_value3_1 := dk_seg dksX7_value3_0 24 rfl rfl
theorem dksX7_value3_2 : cX7_value3.data.toList.drop 46 = dktX7_value3_2 := dk_seg dksX7_value3_1 22 rfl rfl
theorem dksX7_value3_3 : cX7_value3.data.toList.drop 68 = dktX7_value3_3 := dk_seg dksX7_value3_2 22 rfl rfl
theorem dksX7_value3_4 : cX7_value3.data.toList.drop 92 = dktX7_value3_4 := dk_seg dksX7_value3_3 24 rfl rfl
theorem dksX7_value3_5 : cX7_value3.data.toList.drop 115 = dktX7_value3_5 := dk_seg dksX7_value3_4 23 rfl rfl
theorem dX7_value3_0 : decode cX7_value3 0 = .ok (.aload_n 0, 1) := dk_42 (dk_at dksX7_value3_0 0 rfl rfl)
theorem dX7_value3_1 : decode cX7_value3 1 = .ok (.aload_n 0, 1) := dk_42 (dk_at dksX7_value3_0 1 rfl rfl)
theorem dX7_value3_2 : decode cX7_value3 2 = .ok (.getfield 154, 3) := dk_180 0 154 (dk_at dksX7_value3_0 2 rfl rfl)
theorem dX7_value3_5 : decode cX7_value3 5 = .ok (.iconst 1, 1) := dk_4 (dk_at dksX7_value3_0 5 rfl rfl)
theorem dX7_value3_6 : decode cX7_value3 6 = .ok (.iaload, 1) := dk_46 (dk_at dksX7_value3_0 6 rfl rfl)
theorem dX7_value3_7 : decode cX7_value3 7 = .ok (.invokevirtual 493, 3) := dk_182 1 237 (dk_at dksX7_value3_0 7 rfl rfl)
theorem dX7_value3_10 : decode cX7_value3 10 = .ok (.istore_n 1, 1) := dk_60 (dk_at dksX7_value3_0 10 rfl rfl)
theorem dX7_value3_11 : decode cX7_value3 11 = .ok (.aload_n 0, 1) := dk_42 (dk_at dksX7_value3_0 11 rfl rfl)
theorem dX7_value3_12 : decode cX7_value3 12 = .ok (.invokevirtual 484, 3) := dk_182 1 228 (dk_at dksX7_value3_0 12 rfl rfl)
theorem dX7_value3_15 : decode cX7_value3 15 = .ok (.ifCond .eq 5, 3) := dk_153 0 5 (dk_at dksX7_value3_0 15 rfl rfl)
theorem dX7_value3_18 : decode cX7_value3 18 = .ok (.iload_n 1, 1) := dk_27 (dk_at dksX7_value3_0 18 rfl rfl)
theorem dX7_value3_19 : decode cX7_value3 19 = .ok (.ireturn, 1) := dk_172 (dk_at dksX7_value3_0 19 rfl rfl)
theorem dX7_value3_20 : decode cX7_value3 20 = .ok (.iconst 0, 1) := dk_3 (dk_at dksX7_value3_0 20 rfl rfl)
theorem dX7_value3_21 : decode cX7_value3 21 = .ok (.istore_n 2, 1) := dk_61 (dk_at dksX7_value3_0 21 rfl rfl)
theorem dX7_value3_22 : decode cX7_value3 22 = .ok (.iconst 0, 1) := dk_3 (dk_at dksX7_value3_0 22 rfl rfl)
theorem dX7_value3_23 : decode cX7_value3 23 = .ok (.istore_n 3, 1) := dk_62 (dk_at dksX7_value3_0 23 rfl rfl)
theorem dX7_value3_24 : decode cX7_value3 24 = .ok (.iload_n 3, 1) := dk_29 (dk_at dksX7_value3_1 0 rfl rfl)
theorem dX7_value3_25 : decode cX7_value3 25 = .ok (.aload_n 0, 1) := dk_42 (dk_at dksX7_value3_1 1 rfl rfl)
theorem dX7_value3_26 : decode cX7_value3 26 = .ok (.invokevirtual 433, 3) := dk_182 1 177 (dk_at dksX7_value3_1 2 rfl rfl)
theorem dX7_value3_29 : decode cX7_value3 29 = .ok (.if_icmp .ge 92, 3) := dk_162 0 92 (dk_at dksX7_value3_1 5 rfl rfl)
theorem dX7_value3_32 : decode cX7_value3 32 = .ok (.iconst 0, 1) := dk_3 (dk_at dksX7_value3_1 8 rfl rfl)
theorem dX7_value3_33 : decode cX7_value3 33 = .ok (.istore 4, 2) := dk_54 4 (dk_at dksX7_value3_1 9 rfl rfl)
theorem dX7_value3_35 : decode cX7_value3 35 = .ok (.iload 4, 2) := dk_21 4 (dk_at dksX7_value3_1 11 rfl rfl)
theorem dX7_value3_37 : decode cX7_value3 37 = .ok (.aload_n 0, 1) := dk_42 (dk_at dksX7_value3_1 13 rfl rfl)
theorem dX7_value3_38 : decode cX7_value3 38 = .ok (.invokevirtual 471, 3) := dk_182 1 215 (dk_at dksX7_value3_1 14 rfl rfl)
theorem dX7_value3_41 : decode cX7_value3 41 = .ok (.if_icmp .ge 74, 3) := dk_162 0 74 (dk_at dksX7_value3_1 17 rfl rfl)
theorem dX7_value3_44 : decode cX7_value3 44 = .ok (.aload_n 0, 1) := dk_42 (dk_at dksX7_value3_1 20 rfl rfl)
theorem dX7_value3_45 : decode cX7_value3 45 = .ok (.iload_n 3, 1) := dk_29 (dk_at dksX7_value3_1 21 rfl rfl)
theorem dX7_value3_46 : decode cX7_value3 46 = .ok (.invokevirtual 468, 3) := dk_182 1 212 (dk_at dksX7_value3_2 0 rfl rfl)
theorem dX7_value3_49 : decode cX7_value3 49 = .ok (.aload_n 0, 1) := dk_42 (dk_at dksX7_value3_2 3 rfl rfl)
theorem dX7_value3_50 : decode cX7_value3 50 = .ok (.getfield 154, 3) := dk_180 0 154 (dk_at dksX7_value3_2 4 rfl rfl)
theorem dX7_value3_53 : decode cX7_value3 53 = .ok (.iconst 1, 1) := dk_4 (dk_at dksX7_value3_2 7 rfl rfl)
theorem dX7_value3_54 : decode cX7_value3 54 = .ok (.iaload, 1) := dk_46 (dk_at dksX7_value3_2 8 rfl rfl)
theorem dX7_value3_55 : decode cX7_value3 55 = .ok (.if_icmp .ne 54, 3) := dk_160 0 54 (dk_at dksX7_value3_2 9 rfl rfl)
theorem dX7_value3_58 : decode cX7_value3 58 = .ok (.aload_n 0, 1) := dk_42 (dk_at dksX7_value3_2 12 rfl rfl)
theorem dX7_value3_59 : decode cX7_value3 59 = .ok (.iload_n 3, 1) := dk_29 (dk_at dksX7_value3_2 13 rfl rfl)
theorem dX7_value3_60 : decode cX7_value3 60 = .ok (.iload 4, 2) := dk_21 4 (dk_at dksX7_value3_2 14 rfl rfl)
theorem dX7_value3_62 : decode cX7_value3 62 = .ok (.invokevirtual 474, 3) := dk_182 1 218 (dk_at dksX7_value3_2 16 rfl rfl)
theorem dX7_value3_65 : decode cX7_value3 65 = .ok (.ifCond .ne 6, 3) := dk_154 0 6 (dk_at dksX7_value3_2 19 rfl rfl)
theorem dX7_value3_68 : decode cX7_value3 68 = .ok (.goto 41, 3) := dk_167 0 41 (dk_at dksX7_value3_3 0 rfl rfl)
theorem dX7_value3_71 : decode cX7_value3 71 = .ok (.aload_n 0, 1) := dk_42 (dk_at dksX7_value3_3 3 rfl rfl)
theorem dX7_value3_72 : decode cX7_value3 72 = .ok (.iconst 3, 1) := dk_6 (dk_at dksX7_value3_3 4 rfl rfl)
theorem dX7_value3_73 : decode cX7_value3 73 = .ok (.iload_n 3, 1) := dk_29 (dk_at dksX7_value3_3 5 rfl rfl)
theorem dX7_value3_74 : decode cX7_value3 74 = .ok (.iload 4, 2) := dk_21 4 (dk_at dksX7_value3_3 6 rfl rfl)
theorem dX7_value3_76 : decode cX7_value3 76 = .ok (.invokevirtual 496, 3) := dk_182 1 240 (dk_at dksX7_value3_3 8 rfl rfl)
theorem dX7_value3_79 : decode cX7_value3 79 = .ok (.aload_n 0, 1) := dk_42 (dk_at dksX7_value3_3 11 rfl rfl)
theorem dX7_value3_80 : decode cX7_value3 80 = .ok (.invokevirtual 509, 3) := dk_182 1 253 (dk_at dksX7_value3_3 12 rfl rfl)
theorem dX7_value3_83 : decode cX7_value3 83 = .ok (.ineg, 1) := dk_116 (dk_at dksX7_value3_3 15 rfl rfl)
theorem dX7_value3_84 : decode cX7_value3 84 = .ok (.istore 5, 2) := dk_54 5 (dk_at dksX7_value3_3 16 rfl rfl)
theorem dX7_value3_86 : decode cX7_value3 86 = .ok (.aload_n 0, 1) := dk_42 (dk_at dksX7_value3_3 18 rfl rfl)
theorem dX7_value3_87 : decode cX7_value3 87 = .ok (.iconst 3, 1) := dk_6 (dk_at dksX7_value3_3 19 rfl rfl)
theorem dX7_value3_88 : decode cX7_value3 88 = .ok (.invokevirtual 503, 3) := dk_182 1 247 (dk_at dksX7_value3_3 20 rfl rfl)
theorem dX7_value3_91 : decode cX7_value3 91 = .ok (.iload_n 2, 1) := dk_28 (dk_at dksX7_value3_3 23 rfl rfl)
theorem dX7_value3_92 : decode cX7_value3 92 = .ok (.ifCond .eq 12, 3) := dk_153 0 12 (dk_at dksX7_value3_4 0 rfl rfl)
theorem dX7_value3_95 : decode cX7_value3 95 = .ok (.iload 5, 2) := dk_21 5 (dk_at dksX7_value3_4 3 rfl rfl)
theorem dX7_value3_97 : decode cX7_value3 97 = .ok (.iload_n 1, 1) := dk_27 (dk_at dksX7_value3_4 5 rfl rfl)
theorem dX7_value3_98 : decode cX7_value3 98 = .ok (.if_icmp .gt 6, 3) := dk_163 0 6 (dk_at dksX7_value3_4 6 rfl rfl)
theorem dX7_value3_101 : decode cX7_value3 101 = .ok (.goto 8, 3) := dk_167 0 8 (dk_at dksX7_value3_4 9 rfl rfl)
theorem dX7_value3_104 : decode cX7_value3 104 = .ok (.iconst 1, 1) := dk_4 (dk_at dksX7_value3_4 12 rfl rfl)
theorem dX7_value3_105 : decode cX7_value3 105 = .ok (.istore_n 2, 1) := dk_61 (dk_at dksX7_value3_4 13 rfl rfl)
theorem dX7_value3_106 : decode cX7_value3 106 = .ok (.iload 5, 2) := dk_21 5 (dk_at dksX7_value3_4 14 rfl rfl)
theorem dX7_value3_108 : decode cX7_value3 108 = .ok (.istore_n 1, 1) := dk_60 (dk_at dksX7_value3_4 16 rfl rfl)
theorem dX7_value3_109 : decode cX7_value3 109 = .ok (.iinc 4 1, 3) := dk_132 4 1 (dk_at dksX7_value3_4 17 rfl rfl)
theorem dX7_value3_112 : decode cX7_value3 112 = .ok (.goto (-77), 3) := dk_167 255 179 (dk_at dksX7_value3_4 20 rfl rfl)
theorem dX7_value3_115 : decode cX7_value3 115 = .ok (.iinc 3 1, 3) := dk_132 3 1 (dk_at dksX7_value3_5 0 rfl rfl)
theorem dX7_value3_118 : decode cX7_value3 118 = .ok (.goto (-94), 3) := dk_167 255 162 (dk_at dksX7_value3_5 3 rfl rfl)
theorem dX7_value3_121 : decode cX7_value3 121 = .ok (.iload_n 1, 1) := dk_27 (dk_at dksX7_value3_5 6 rfl rfl)
theorem dX7_value3_122 : decode cX7_value3 122 = .ok (.ireturn, 1) := dk_172 (dk_at dksX7_value3_5 7 rfl rfl)
abbrev cX7_best : ByteArray := prog_25_method_89_code
def yX7_best : MethodName := ⟨RX7, "best", "(I)I"⟩
def dkwX7_best_1 : List UInt8 := [182, 2, 60, 42, 180, 2, 3, 172]
abbrev dktX7_best_1 : List UInt8 := dkwX7_best_1 ++ []
def dkwX7_best_0 : List UInt8 := [42, 180, 1, 168, 153, 0, 15, 27, 133, 10, 20, 2, 85, 184, 1, 65, 154, 0, 5, 2, 172, 42, 27]
abbrev dktX7_best_0 : List UInt8 := dkwX7_best_0 ++ dktX7_best_1
theorem dksX7_best_0 : cX7_best.data.toList.drop 0 = dktX7_best_0 := by decide +kernel
theorem dksX7_best_1 : cX7_best.data.toList.drop 23 = dktX7_best_1 := dk_seg dksX7_best_0 23 rfl rfl
theorem dX7_best_0 : decode cX7_best 0 = .ok (.aload_n 0, 1) := dk_42 (dk_at dksX7_best_0 0 rfl rfl)
theorem dX7_best_1 : decode cX7_best 1 = .ok (.getfield 424, 3) := dk_180 1 168 (dk_at dksX7_best_0 1 rfl rfl)
theorem dX7_best_4 : decode cX7_best 4 = .ok (.ifCond .eq 15, 3) := dk_153 0 15 (dk_at dksX7_best_0 4 rfl rfl)
theorem dX7_best_7 : decode cX7_best 7 = .ok (.iload_n 1, 1) := dk_27 (dk_at dksX7_best_0 7 rfl rfl)
theorem dX7_best_8 : decode cX7_best 8 = .ok (.i2l, 1) := dk_133 (dk_at dksX7_best_0 8 rfl rfl)
theorem dX7_best_9 : decode cX7_best 9 = .ok (.lconst 1, 1) := dk_10 (dk_at dksX7_best_0 9 rfl rfl)
theorem dX7_best_10 : decode cX7_best 10 = .ok (.ldc2_w 597, 3) := dk_20 2 85 (dk_at dksX7_best_0 10 rfl rfl)
theorem dX7_best_13 : decode cX7_best 13 = .ok (.invokestatic 321, 3) := dk_184 1 65 (dk_at dksX7_best_0 13 rfl rfl)
theorem dX7_best_16 : decode cX7_best 16 = .ok (.ifCond .ne 5, 3) := dk_154 0 5 (dk_at dksX7_best_0 16 rfl rfl)
theorem dX7_best_19 : decode cX7_best 19 = .ok (.iconst (-1), 1) := dk_2 (dk_at dksX7_best_0 19 rfl rfl)
theorem dX7_best_20 : decode cX7_best 20 = .ok (.ireturn, 1) := dk_172 (dk_at dksX7_best_0 20 rfl rfl)
theorem dX7_best_21 : decode cX7_best 21 = .ok (.aload_n 0, 1) := dk_42 (dk_at dksX7_best_0 21 rfl rfl)
theorem dX7_best_22 : decode cX7_best 22 = .ok (.iload_n 1, 1) := dk_27 (dk_at dksX7_best_0 22 rfl rfl)
theorem dX7_best_23 : decode cX7_best 23 = .ok (.invokevirtual 572, 3) := dk_182 2 60 (dk_at dksX7_best_1 0 rfl rfl)
theorem dX7_best_26 : decode cX7_best 26 = .ok (.aload_n 0, 1) := dk_42 (dk_at dksX7_best_1 3 rfl rfl)
theorem dX7_best_27 : decode cX7_best 27 = .ok (.getfield 515, 3) := dk_180 2 3 (dk_at dksX7_best_1 4 rfl rfl)
theorem dX7_best_30 : decode cX7_best 30 = .ok (.ireturn, 1) := dk_172 (dk_at dksX7_best_1 7 rfl rfl)
abbrev cX7_choosesBest : ByteArray := prog_25_method_62_code
def yX7_choosesBest : MethodName := ⟨RX7, "choosesBest", "(I)V"⟩
def dkwX7_choosesBest_6 : List UInt8 := [177]
abbrev dktX7_choosesBest_6 : List UInt8 := dkwX7_choosesBest_6 ++ []
def dkwX7_choosesBest_5 : List UInt8 := [181, 2, 9, 42, 21, 5, 181, 2, 12, 132, 3, 1, 132, 5, 1, 167, 255, 154, 132, 4, 1, 167, 255, 136]
abbrev dktX7_choosesBest_5 : List UInt8 := dkwX7_choosesBest_5 ++ dktX7_choosesBest_6
def dkwX7_choosesBest_4 : List UInt8 := [180, 2, 3, 2, 159, 0, 9, 21, 6, 28, 164, 0, 23, 21, 6, 61, 42, 29, 181, 2, 3, 42, 21, 4]
abbrev dktX7_choosesBest_4 : List UInt8 := dkwX7_choosesBest_4 ++ dktX7_choosesBest_5
def dkwX7_choosesBest_3 : List UInt8 := [3, 21, 4, 21, 5, 182, 1, 240, 42, 27, 4, 100, 182, 2, 6, 116, 54, 6, 42, 3, 182, 1, 247, 42]
abbrev dktX7_choosesBest_3 : List UInt8 := dkwX7_choosesBest_3 ++ dktX7_choosesBest_4
def dkwX7_choosesBest_2 : List UInt8 := [42, 180, 0, 154, 4, 46, 160, 0, 78, 42, 21, 4, 21, 5, 182, 1, 218, 154, 0, 6, 167, 0, 64, 42]
abbrev dktX7_choosesBest_2 : List UInt8 := dkwX7_choosesBest_2 ++ dktX7_choosesBest_3
def dkwX7_choosesBest_1 : List UInt8 := [182, 1, 177, 162, 0, 117, 3, 54, 5, 21, 5, 42, 182, 1, 215, 162, 0, 99, 42, 21, 4, 182, 1, 212]
abbrev dktX7_choosesBest_1 : List UInt8 := dkwX7_choosesBest_1 ++ dktX7_choosesBest_2
def dkwX7_choosesBest_0 : List UInt8 := [42, 2, 181, 2, 3, 42, 182, 1, 228, 153, 0, 4, 177, 3, 61, 3, 62, 3, 54, 4, 21, 4, 42]
abbrev dktX7_choosesBest_0 : List UInt8 := dkwX7_choosesBest_0 ++ dktX7_choosesBest_1
theorem dksX7_choosesBest_0 : cX7_choosesBest.data.toList.drop 0 = dktX7_choosesBest_0 := by decide +kernel
theorem dksX7_choosesBest_1 : cX7_choosesBest.data.toList.drop 23 = dktX7_choosesBest_1 := dk_seg dksX7_choosesBest_0 23 rfl rfl
theorem dksX7_choosesBest_2 : cX7_choosesBest.data.toList.drop 47 = dktX7_choosesBest_2 := dk_seg dksX7_choosesBest_1 24 rfl rfl
theorem dksX7_choosesBest_3 : cX7_choosesBest.data.toList.drop 71 = dktX7_choosesBest_3 := dk_seg dksX7_choosesBest_2 24 rfl rfl
theorem dksX7_choosesBest_4 : cX7_choosesBest.data.toList.drop 95 = dktX7_choosesBest_4 := dk_seg dksX7_choosesBest_3 24 rfl rfl
theorem dksX7_choosesBest_5 : cX7_choosesBest.data.toList.drop 119 = dktX7_choosesBest_5 := dk_seg dksX7_choosesBest_4 24 rfl rfl
theorem dksX7_choosesBest_6 : cX7_choosesBest.data.toList.drop 143 = dktX7_choosesBest_6 := dk_seg dksX7_choosesBest_5 24 rfl rfl
theorem dX7_choosesBest_0 : decode cX7_choosesBest 0 = .ok (.aload_n 0, 1) := dk_42 (dk_at dksX7_choosesBest_0 0 rfl rfl)
theorem dX7_choosesBest_1 : decode cX7_choosesBest 1 = .ok (.iconst (-1), 1) := dk_2 (dk_at dksX7_choosesBest_0 1 rfl rfl)
theorem dX7_choosesBest_2 : decode cX7_choosesBest 2 = .ok (.putfield 515, 3) := dk_181 2 3 (dk_at dksX7_choosesBest_0 2 rfl rfl)
theorem dX7_choosesBest_5 : decode cX7_choosesBest 5 = .ok (.aload_n 0, 1) := dk_42 (dk_at dksX7_choosesBest_0 5 rfl rfl)
theorem dX7_choosesBest_6 : decode cX7_choosesBest 6 = .ok (.invokevirtual 484, 3) := dk_182 1 228 (dk_at dksX7_choosesBest_0 6 rfl rfl)
theorem dX7_choosesBest_9 : decode cX7_choosesBest 9 = .ok (.ifCond .eq 4, 3) := dk_153 0 4 (dk_at dksX7_choosesBest_0 9 rfl rfl)
theorem dX7_choosesBest_12 : decode cX7_choosesBest 12 = .ok (.return_, 1) := dk_177 (dk_at dksX7_choosesBest_0 12 rfl rfl)
theorem dX7_choosesBest_13 : decode cX7_choosesBest 13 = .ok (.iconst 0, 1) := dk_3 (dk_at dksX7_choosesBest_0 13 rfl rfl)
theorem dX7_choosesBest_14 : decode cX7_choosesBest 14 = .ok (.istore_n 2, 1) := dk_61 (dk_at dksX7_choosesBest_0 14 rfl rfl)
theorem dX7_choosesBest_15 : decode cX7_choosesBest 15 = .ok (.iconst 0, 1) := dk_3 (dk_at dksX7_choosesBest_0 15 rfl rfl)
theorem dX7_choosesBest_16 : decode cX7_choosesBest 16 = .ok (.istore_n 3, 1) := dk_62 (dk_at dksX7_choosesBest_0 16 rfl rfl)
theorem dX7_choosesBest_17 : decode cX7_choosesBest 17 = .ok (.iconst 0, 1) := dk_3 (dk_at dksX7_choosesBest_0 17 rfl rfl)
theorem dX7_choosesBest_18 : decode cX7_choosesBest 18 = .ok (.istore 4, 2) := dk_54 4 (dk_at dksX7_choosesBest_0 18 rfl rfl)
theorem dX7_choosesBest_20 : decode cX7_choosesBest 20 = .ok (.iload 4, 2) := dk_21 4 (dk_at dksX7_choosesBest_0 20 rfl rfl)
theorem dX7_choosesBest_22 : decode cX7_choosesBest 22 = .ok (.aload_n 0, 1) := dk_42 (dk_at dksX7_choosesBest_0 22 rfl rfl)
theorem dX7_choosesBest_23 : decode cX7_choosesBest 23 = .ok (.invokevirtual 433, 3) := dk_182 1 177 (dk_at dksX7_choosesBest_1 0 rfl rfl)
theorem dX7_choosesBest_26 : decode cX7_choosesBest 26 = .ok (.if_icmp .ge 117, 3) := dk_162 0 117 (dk_at dksX7_choosesBest_1 3 rfl rfl)
theorem dX7_choosesBest_29 : decode cX7_choosesBest 29 = .ok (.iconst 0, 1) := dk_3 (dk_at dksX7_choosesBest_1 6 rfl rfl)
theorem dX7_choosesBest_30 : decode cX7_choosesBest 30 = .ok (.istore 5, 2) := dk_54 5 (dk_at dksX7_choosesBest_1 7 rfl rfl)
theorem dX7_choosesBest_32 : decode cX7_choosesBest 32 = .ok (.iload 5, 2) := dk_21 5 (dk_at dksX7_choosesBest_1 9 rfl rfl)
theorem dX7_choosesBest_34 : decode cX7_choosesBest 34 = .ok (.aload_n 0, 1) := dk_42 (dk_at dksX7_choosesBest_1 11 rfl rfl)
theorem dX7_choosesBest_35 : decode cX7_choosesBest 35 = .ok (.invokevirtual 471, 3) := dk_182 1 215 (dk_at dksX7_choosesBest_1 12 rfl rfl)
theorem dX7_choosesBest_38 : decode cX7_choosesBest 38 = .ok (.if_icmp .ge 99, 3) := dk_162 0 99 (dk_at dksX7_choosesBest_1 15 rfl rfl)
theorem dX7_choosesBest_41 : decode cX7_choosesBest 41 = .ok (.aload_n 0, 1) := dk_42 (dk_at dksX7_choosesBest_1 18 rfl rfl)
theorem dX7_choosesBest_42 : decode cX7_choosesBest 42 = .ok (.iload 4, 2) := dk_21 4 (dk_at dksX7_choosesBest_1 19 rfl rfl)
theorem dX7_choosesBest_44 : decode cX7_choosesBest 44 = .ok (.invokevirtual 468, 3) := dk_182 1 212 (dk_at dksX7_choosesBest_1 21 rfl rfl)
theorem dX7_choosesBest_47 : decode cX7_choosesBest 47 = .ok (.aload_n 0, 1) := dk_42 (dk_at dksX7_choosesBest_2 0 rfl rfl)
theorem dX7_choosesBest_48 : decode cX7_choosesBest 48 = .ok (.getfield 154, 3) := dk_180 0 154 (dk_at dksX7_choosesBest_2 1 rfl rfl)
theorem dX7_choosesBest_51 : decode cX7_choosesBest 51 = .ok (.iconst 1, 1) := dk_4 (dk_at dksX7_choosesBest_2 4 rfl rfl)
theorem dX7_choosesBest_52 : decode cX7_choosesBest 52 = .ok (.iaload, 1) := dk_46 (dk_at dksX7_choosesBest_2 5 rfl rfl)
theorem dX7_choosesBest_53 : decode cX7_choosesBest 53 = .ok (.if_icmp .ne 78, 3) := dk_160 0 78 (dk_at dksX7_choosesBest_2 6 rfl rfl)
theorem dX7_choosesBest_56 : decode cX7_choosesBest 56 = .ok (.aload_n 0, 1) := dk_42 (dk_at dksX7_choosesBest_2 9 rfl rfl)
theorem dX7_choosesBest_57 : decode cX7_choosesBest 57 = .ok (.iload 4, 2) := dk_21 4 (dk_at dksX7_choosesBest_2 10 rfl rfl)
theorem dX7_choosesBest_59 : decode cX7_choosesBest 59 = .ok (.iload 5, 2) := dk_21 5 (dk_at dksX7_choosesBest_2 12 rfl rfl)
theorem dX7_choosesBest_61 : decode cX7_choosesBest 61 = .ok (.invokevirtual 474, 3) := dk_182 1 218 (dk_at dksX7_choosesBest_2 14 rfl rfl)
theorem dX7_choosesBest_64 : decode cX7_choosesBest 64 = .ok (.ifCond .ne 6, 3) := dk_154 0 6 (dk_at dksX7_choosesBest_2 17 rfl rfl)
theorem dX7_choosesBest_67 : decode cX7_choosesBest 67 = .ok (.goto 64, 3) := dk_167 0 64 (dk_at dksX7_choosesBest_2 20 rfl rfl)
theorem dX7_choosesBest_70 : decode cX7_choosesBest 70 = .ok (.aload_n 0, 1) := dk_42 (dk_at dksX7_choosesBest_2 23 rfl rfl)
theorem dX7_choosesBest_71 : decode cX7_choosesBest 71 = .ok (.iconst 0, 1) := dk_3 (dk_at dksX7_choosesBest_3 0 rfl rfl)
theorem dX7_choosesBest_72 : decode cX7_choosesBest 72 = .ok (.iload 4, 2) := dk_21 4 (dk_at dksX7_choosesBest_3 1 rfl rfl)
theorem dX7_choosesBest_74 : decode cX7_choosesBest 74 = .ok (.iload 5, 2) := dk_21 5 (dk_at dksX7_choosesBest_3 3 rfl rfl)
theorem dX7_choosesBest_76 : decode cX7_choosesBest 76 = .ok (.invokevirtual 496, 3) := dk_182 1 240 (dk_at dksX7_choosesBest_3 5 rfl rfl)
theorem dX7_choosesBest_79 : decode cX7_choosesBest 79 = .ok (.aload_n 0, 1) := dk_42 (dk_at dksX7_choosesBest_3 8 rfl rfl)
theorem dX7_choosesBest_80 : decode cX7_choosesBest 80 = .ok (.iload_n 1, 1) := dk_27 (dk_at dksX7_choosesBest_3 9 rfl rfl)
theorem dX7_choosesBest_81 : decode cX7_choosesBest 81 = .ok (.iconst 1, 1) := dk_4 (dk_at dksX7_choosesBest_3 10 rfl rfl)
theorem dX7_choosesBest_82 : decode cX7_choosesBest 82 = .ok (.isub, 1) := dk_100 (dk_at dksX7_choosesBest_3 11 rfl rfl)
theorem dX7_choosesBest_83 : decode cX7_choosesBest 83 = .ok (.invokevirtual 518, 3) := dk_182 2 6 (dk_at dksX7_choosesBest_3 12 rfl rfl)
theorem dX7_choosesBest_86 : decode cX7_choosesBest 86 = .ok (.ineg, 1) := dk_116 (dk_at dksX7_choosesBest_3 15 rfl rfl)
theorem dX7_choosesBest_87 : decode cX7_choosesBest 87 = .ok (.istore 6, 2) := dk_54 6 (dk_at dksX7_choosesBest_3 16 rfl rfl)
theorem dX7_choosesBest_89 : decode cX7_choosesBest 89 = .ok (.aload_n 0, 1) := dk_42 (dk_at dksX7_choosesBest_3 18 rfl rfl)
theorem dX7_choosesBest_90 : decode cX7_choosesBest 90 = .ok (.iconst 0, 1) := dk_3 (dk_at dksX7_choosesBest_3 19 rfl rfl)
theorem dX7_choosesBest_91 : decode cX7_choosesBest 91 = .ok (.invokevirtual 503, 3) := dk_182 1 247 (dk_at dksX7_choosesBest_3 20 rfl rfl)
theorem dX7_choosesBest_94 : decode cX7_choosesBest 94 = .ok (.aload_n 0, 1) := dk_42 (dk_at dksX7_choosesBest_3 23 rfl rfl)
theorem dX7_choosesBest_95 : decode cX7_choosesBest 95 = .ok (.getfield 515, 3) := dk_180 2 3 (dk_at dksX7_choosesBest_4 0 rfl rfl)
theorem dX7_choosesBest_98 : decode cX7_choosesBest 98 = .ok (.iconst (-1), 1) := dk_2 (dk_at dksX7_choosesBest_4 3 rfl rfl)
theorem dX7_choosesBest_99 : decode cX7_choosesBest 99 = .ok (.if_icmp .eq 9, 3) := dk_159 0 9 (dk_at dksX7_choosesBest_4 4 rfl rfl)
theorem dX7_choosesBest_102 : decode cX7_choosesBest 102 = .ok (.iload 6, 2) := dk_21 6 (dk_at dksX7_choosesBest_4 7 rfl rfl)
theorem dX7_choosesBest_104 : decode cX7_choosesBest 104 = .ok (.iload_n 2, 1) := dk_28 (dk_at dksX7_choosesBest_4 9 rfl rfl)
theorem dX7_choosesBest_105 : decode cX7_choosesBest 105 = .ok (.if_icmp .le 23, 3) := dk_164 0 23 (dk_at dksX7_choosesBest_4 10 rfl rfl)
theorem dX7_choosesBest_108 : decode cX7_choosesBest 108 = .ok (.iload 6, 2) := dk_21 6 (dk_at dksX7_choosesBest_4 13 rfl rfl)
theorem dX7_choosesBest_110 : decode cX7_choosesBest 110 = .ok (.istore_n 2, 1) := dk_61 (dk_at dksX7_choosesBest_4 15 rfl rfl)
theorem dX7_choosesBest_111 : decode cX7_choosesBest 111 = .ok (.aload_n 0, 1) := dk_42 (dk_at dksX7_choosesBest_4 16 rfl rfl)
theorem dX7_choosesBest_112 : decode cX7_choosesBest 112 = .ok (.iload_n 3, 1) := dk_29 (dk_at dksX7_choosesBest_4 17 rfl rfl)
theorem dX7_choosesBest_113 : decode cX7_choosesBest 113 = .ok (.putfield 515, 3) := dk_181 2 3 (dk_at dksX7_choosesBest_4 18 rfl rfl)
theorem dX7_choosesBest_116 : decode cX7_choosesBest 116 = .ok (.aload_n 0, 1) := dk_42 (dk_at dksX7_choosesBest_4 21 rfl rfl)
theorem dX7_choosesBest_117 : decode cX7_choosesBest 117 = .ok (.iload 4, 2) := dk_21 4 (dk_at dksX7_choosesBest_4 22 rfl rfl)
theorem dX7_choosesBest_119 : decode cX7_choosesBest 119 = .ok (.putfield 521, 3) := dk_181 2 9 (dk_at dksX7_choosesBest_5 0 rfl rfl)
theorem dX7_choosesBest_122 : decode cX7_choosesBest 122 = .ok (.aload_n 0, 1) := dk_42 (dk_at dksX7_choosesBest_5 3 rfl rfl)
theorem dX7_choosesBest_123 : decode cX7_choosesBest 123 = .ok (.iload 5, 2) := dk_21 5 (dk_at dksX7_choosesBest_5 4 rfl rfl)
theorem dX7_choosesBest_125 : decode cX7_choosesBest 125 = .ok (.putfield 524, 3) := dk_181 2 12 (dk_at dksX7_choosesBest_5 6 rfl rfl)
theorem dX7_choosesBest_128 : decode cX7_choosesBest 128 = .ok (.iinc 3 1, 3) := dk_132 3 1 (dk_at dksX7_choosesBest_5 9 rfl rfl)
theorem dX7_choosesBest_131 : decode cX7_choosesBest 131 = .ok (.iinc 5 1, 3) := dk_132 5 1 (dk_at dksX7_choosesBest_5 12 rfl rfl)
theorem dX7_choosesBest_134 : decode cX7_choosesBest 134 = .ok (.goto (-102), 3) := dk_167 255 154 (dk_at dksX7_choosesBest_5 15 rfl rfl)
theorem dX7_choosesBest_137 : decode cX7_choosesBest 137 = .ok (.iinc 4 1, 3) := dk_132 4 1 (dk_at dksX7_choosesBest_5 18 rfl rfl)
theorem dX7_choosesBest_140 : decode cX7_choosesBest 140 = .ok (.goto (-120), 3) := dk_167 255 136 (dk_at dksX7_choosesBest_5 21 rfl rfl)
theorem dX7_choosesBest_143 : decode cX7_choosesBest 143 = .ok (.return_, 1) := dk_177 (dk_at dksX7_choosesBest_6 0 rfl rfl)
abbrev cX7_forced : ByteArray := prog_25_method_92_code
def yX7_forced : MethodName := ⟨RX7, "forced", "()I"⟩
def dkwX7_forced_5 : List UInt8 := [132, 2, 1, 167, 255, 163, 27, 153, 0, 7, 5, 167, 0, 4, 2, 172]
abbrev dktX7_forced_5 : List UInt8 := dkwX7_forced_5 ++ []
def dkwX7_forced_4 : List UInt8 := [182, 2, 103, 153, 0, 7, 4, 167, 0, 4, 3, 60, 42, 3, 182, 1, 247, 132, 3, 1, 167, 255, 183]
abbrev dktX7_forced_4 : List UInt8 := dkwX7_forced_4 ++ dktX7_forced_5
def dkwX7_forced_3 : List UInt8 := [182, 1, 218, 154, 0, 6, 167, 0, 35, 42, 3, 28, 29, 182, 1, 240, 42, 182, 1, 228, 154, 0, 14, 42]
abbrev dktX7_forced_3 : List UInt8 := dkwX7_forced_3 ++ dktX7_forced_4
def dkwX7_forced_2 : List UInt8 := [162, 0, 71, 27, 154, 0, 67, 42, 28, 182, 1, 212, 42, 180, 0, 154, 4, 46, 160, 0, 47, 42, 28, 29]
abbrev dktX7_forced_2 : List UInt8 := dkwX7_forced_2 ++ dktX7_forced_3
def dkwX7_forced_1 : List UInt8 := [172, 3, 60, 3, 61, 28, 42, 182, 1, 177, 162, 0, 91, 27, 154, 0, 87, 3, 62, 29, 42, 182, 1, 215]
abbrev dktX7_forced_1 : List UInt8 := dkwX7_forced_1 ++ dktX7_forced_2
def dkwX7_forced_0 : List UInt8 := [42, 180, 1, 168, 153, 0, 10, 42, 182, 2, 72, 153, 0, 5, 2, 172, 42, 182, 2, 100, 153, 0, 5, 4]
abbrev dktX7_forced_0 : List UInt8 := dkwX7_forced_0 ++ dktX7_forced_1
theorem dksX7_forced_0 : cX7_forced.data.toList.drop 0 = dktX7_forced_0 := by decide +kernel
theorem dksX7_forced_1 : cX7_forced.data.toList.drop 24 = dktX7_forced_1 := dk_seg dksX7_forced_0 24 rfl rfl
theorem dksX7_forced_2 : cX7_forced.data.toList.drop 48 = dktX7_forced_2 := dk_seg dksX7_forced_1 24 rfl rfl
theorem dksX7_forced_3 : cX7_forced.data.toList.drop 72 = dktX7_forced_3 := dk_seg dksX7_forced_2 24 rfl rfl
theorem dksX7_forced_4 : cX7_forced.data.toList.drop 96 = dktX7_forced_4 := dk_seg dksX7_forced_3 24 rfl rfl
theorem dksX7_forced_5 : cX7_forced.data.toList.drop 119 = dktX7_forced_5 := dk_seg dksX7_forced_4 23 rfl rfl
theorem dX7_forced_0 : decode cX7_forced 0 = .ok (.aload_n 0, 1) := dk_42 (dk_at dksX7_forced_0 0 rfl rfl)
theorem dX7_forced_1 : decode cX7_forced 1 = .ok (.getfield 424, 3) := dk_180 1 168 (dk_at dksX7_forced_0 1 rfl rfl)
theorem dX7_forced_4 : decode cX7_forced 4 = .ok (.ifCond .eq 10, 3) := dk_153 0 10 (dk_at dksX7_forced_0 4 rfl rfl)
theorem dX7_forced_7 : decode cX7_forced 7 = .ok (.aload_n 0, 1) := dk_42 (dk_at dksX7_forced_0 7 rfl rfl)
theorem dX7_forced_8 : decode cX7_forced 8 = .ok (.invokevirtual 584, 3) := dk_182 2 72 (dk_at dksX7_forced_0 8 rfl rfl)
theorem dX7_forced_11 : decode cX7_forced 11 = .ok (.ifCond .eq 5, 3) := dk_153 0 5 (dk_at dksX7_forced_0 11 rfl rfl)
theorem dX7_forced_14 : decode cX7_forced 14 = .ok (.iconst (-1), 1) := dk_2 (dk_at dksX7_forced_0 14 rfl rfl)
theorem dX7_forced_15 : decode cX7_forced 15 = .ok (.ireturn, 1) := dk_172 (dk_at dksX7_forced_0 15 rfl rfl)
theorem dX7_forced_16 : decode cX7_forced 16 = .ok (.aload_n 0, 1) := dk_42 (dk_at dksX7_forced_0 16 rfl rfl)
theorem dX7_forced_17 : decode cX7_forced 17 = .ok (.invokevirtual 612, 3) := dk_182 2 100 (dk_at dksX7_forced_0 17 rfl rfl)
theorem dX7_forced_20 : decode cX7_forced 20 = .ok (.ifCond .eq 5, 3) := dk_153 0 5 (dk_at dksX7_forced_0 20 rfl rfl)
theorem dX7_forced_23 : decode cX7_forced 23 = .ok (.iconst 1, 1) := dk_4 (dk_at dksX7_forced_0 23 rfl rfl)
theorem dX7_forced_24 : decode cX7_forced 24 = .ok (.ireturn, 1) := dk_172 (dk_at dksX7_forced_1 0 rfl rfl)
theorem dX7_forced_25 : decode cX7_forced 25 = .ok (.iconst 0, 1) := dk_3 (dk_at dksX7_forced_1 1 rfl rfl)
theorem dX7_forced_26 : decode cX7_forced 26 = .ok (.istore_n 1, 1) := dk_60 (dk_at dksX7_forced_1 2 rfl rfl)
theorem dX7_forced_27 : decode cX7_forced 27 = .ok (.iconst 0, 1) := dk_3 (dk_at dksX7_forced_1 3 rfl rfl)
theorem dX7_forced_28 : decode cX7_forced 28 = .ok (.istore_n 2, 1) := dk_61 (dk_at dksX7_forced_1 4 rfl rfl)
theorem dX7_forced_29 : decode cX7_forced 29 = .ok (.iload_n 2, 1) := dk_28 (dk_at dksX7_forced_1 5 rfl rfl)
theorem dX7_forced_30 : decode cX7_forced 30 = .ok (.aload_n 0, 1) := dk_42 (dk_at dksX7_forced_1 6 rfl rfl)
theorem dX7_forced_31 : decode cX7_forced 31 = .ok (.invokevirtual 433, 3) := dk_182 1 177 (dk_at dksX7_forced_1 7 rfl rfl)
theorem dX7_forced_34 : decode cX7_forced 34 = .ok (.if_icmp .ge 91, 3) := dk_162 0 91 (dk_at dksX7_forced_1 10 rfl rfl)
theorem dX7_forced_37 : decode cX7_forced 37 = .ok (.iload_n 1, 1) := dk_27 (dk_at dksX7_forced_1 13 rfl rfl)
theorem dX7_forced_38 : decode cX7_forced 38 = .ok (.ifCond .ne 87, 3) := dk_154 0 87 (dk_at dksX7_forced_1 14 rfl rfl)
theorem dX7_forced_41 : decode cX7_forced 41 = .ok (.iconst 0, 1) := dk_3 (dk_at dksX7_forced_1 17 rfl rfl)
theorem dX7_forced_42 : decode cX7_forced 42 = .ok (.istore_n 3, 1) := dk_62 (dk_at dksX7_forced_1 18 rfl rfl)
theorem dX7_forced_43 : decode cX7_forced 43 = .ok (.iload_n 3, 1) := dk_29 (dk_at dksX7_forced_1 19 rfl rfl)
theorem dX7_forced_44 : decode cX7_forced 44 = .ok (.aload_n 0, 1) := dk_42 (dk_at dksX7_forced_1 20 rfl rfl)
theorem dX7_forced_45 : decode cX7_forced 45 = .ok (.invokevirtual 471, 3) := dk_182 1 215 (dk_at dksX7_forced_1 21 rfl rfl)
theorem dX7_forced_48 : decode cX7_forced 48 = .ok (.if_icmp .ge 71, 3) := dk_162 0 71 (dk_at dksX7_forced_2 0 rfl rfl)
theorem dX7_forced_51 : decode cX7_forced 51 = .ok (.iload_n 1, 1) := dk_27 (dk_at dksX7_forced_2 3 rfl rfl)
theorem dX7_forced_52 : decode cX7_forced 52 = .ok (.ifCond .ne 67, 3) := dk_154 0 67 (dk_at dksX7_forced_2 4 rfl rfl)
theorem dX7_forced_55 : decode cX7_forced 55 = .ok (.aload_n 0, 1) := dk_42 (dk_at dksX7_forced_2 7 rfl rfl)
theorem dX7_forced_56 : decode cX7_forced 56 = .ok (.iload_n 2, 1) := dk_28 (dk_at dksX7_forced_2 8 rfl rfl)
theorem dX7_forced_57 : decode cX7_forced 57 = .ok (.invokevirtual 468, 3) := dk_182 1 212 (dk_at dksX7_forced_2 9 rfl rfl)
theorem dX7_forced_60 : decode cX7_forced 60 = .ok (.aload_n 0, 1) := dk_42 (dk_at dksX7_forced_2 12 rfl rfl)
theorem dX7_forced_61 : decode cX7_forced 61 = .ok (.getfield 154, 3) := dk_180 0 154 (dk_at dksX7_forced_2 13 rfl rfl)
theorem dX7_forced_64 : decode cX7_forced 64 = .ok (.iconst 1, 1) := dk_4 (dk_at dksX7_forced_2 16 rfl rfl)
theorem dX7_forced_65 : decode cX7_forced 65 = .ok (.iaload, 1) := dk_46 (dk_at dksX7_forced_2 17 rfl rfl)
theorem dX7_forced_66 : decode cX7_forced 66 = .ok (.if_icmp .ne 47, 3) := dk_160 0 47 (dk_at dksX7_forced_2 18 rfl rfl)
theorem dX7_forced_69 : decode cX7_forced 69 = .ok (.aload_n 0, 1) := dk_42 (dk_at dksX7_forced_2 21 rfl rfl)
theorem dX7_forced_70 : decode cX7_forced 70 = .ok (.iload_n 2, 1) := dk_28 (dk_at dksX7_forced_2 22 rfl rfl)
theorem dX7_forced_71 : decode cX7_forced 71 = .ok (.iload_n 3, 1) := dk_29 (dk_at dksX7_forced_2 23 rfl rfl)
theorem dX7_forced_72 : decode cX7_forced 72 = .ok (.invokevirtual 474, 3) := dk_182 1 218 (dk_at dksX7_forced_3 0 rfl rfl)
theorem dX7_forced_75 : decode cX7_forced 75 = .ok (.ifCond .ne 6, 3) := dk_154 0 6 (dk_at dksX7_forced_3 3 rfl rfl)
theorem dX7_forced_78 : decode cX7_forced 78 = .ok (.goto 35, 3) := dk_167 0 35 (dk_at dksX7_forced_3 6 rfl rfl)
theorem dX7_forced_81 : decode cX7_forced 81 = .ok (.aload_n 0, 1) := dk_42 (dk_at dksX7_forced_3 9 rfl rfl)
theorem dX7_forced_82 : decode cX7_forced 82 = .ok (.iconst 0, 1) := dk_3 (dk_at dksX7_forced_3 10 rfl rfl)
theorem dX7_forced_83 : decode cX7_forced 83 = .ok (.iload_n 2, 1) := dk_28 (dk_at dksX7_forced_3 11 rfl rfl)
theorem dX7_forced_84 : decode cX7_forced 84 = .ok (.iload_n 3, 1) := dk_29 (dk_at dksX7_forced_3 12 rfl rfl)
theorem dX7_forced_85 : decode cX7_forced 85 = .ok (.invokevirtual 496, 3) := dk_182 1 240 (dk_at dksX7_forced_3 13 rfl rfl)
theorem dX7_forced_88 : decode cX7_forced 88 = .ok (.aload_n 0, 1) := dk_42 (dk_at dksX7_forced_3 16 rfl rfl)
theorem dX7_forced_89 : decode cX7_forced 89 = .ok (.invokevirtual 484, 3) := dk_182 1 228 (dk_at dksX7_forced_3 17 rfl rfl)
theorem dX7_forced_92 : decode cX7_forced 92 = .ok (.ifCond .ne 14, 3) := dk_154 0 14 (dk_at dksX7_forced_3 20 rfl rfl)
theorem dX7_forced_95 : decode cX7_forced 95 = .ok (.aload_n 0, 1) := dk_42 (dk_at dksX7_forced_3 23 rfl rfl)
theorem dX7_forced_96 : decode cX7_forced 96 = .ok (.invokevirtual 615, 3) := dk_182 2 103 (dk_at dksX7_forced_4 0 rfl rfl)
theorem dX7_forced_99 : decode cX7_forced 99 = .ok (.ifCond .eq 7, 3) := dk_153 0 7 (dk_at dksX7_forced_4 3 rfl rfl)
theorem dX7_forced_102 : decode cX7_forced 102 = .ok (.iconst 1, 1) := dk_4 (dk_at dksX7_forced_4 6 rfl rfl)
theorem dX7_forced_103 : decode cX7_forced 103 = .ok (.goto 4, 3) := dk_167 0 4 (dk_at dksX7_forced_4 7 rfl rfl)
theorem dX7_forced_106 : decode cX7_forced 106 = .ok (.iconst 0, 1) := dk_3 (dk_at dksX7_forced_4 10 rfl rfl)
theorem dX7_forced_107 : decode cX7_forced 107 = .ok (.istore_n 1, 1) := dk_60 (dk_at dksX7_forced_4 11 rfl rfl)
theorem dX7_forced_108 : decode cX7_forced 108 = .ok (.aload_n 0, 1) := dk_42 (dk_at dksX7_forced_4 12 rfl rfl)
theorem dX7_forced_109 : decode cX7_forced 109 = .ok (.iconst 0, 1) := dk_3 (dk_at dksX7_forced_4 13 rfl rfl)
theorem dX7_forced_110 : decode cX7_forced 110 = .ok (.invokevirtual 503, 3) := dk_182 1 247 (dk_at dksX7_forced_4 14 rfl rfl)
theorem dX7_forced_113 : decode cX7_forced 113 = .ok (.iinc 3 1, 3) := dk_132 3 1 (dk_at dksX7_forced_4 17 rfl rfl)
theorem dX7_forced_116 : decode cX7_forced 116 = .ok (.goto (-73), 3) := dk_167 255 183 (dk_at dksX7_forced_4 20 rfl rfl)
theorem dX7_forced_119 : decode cX7_forced 119 = .ok (.iinc 2 1, 3) := dk_132 2 1 (dk_at dksX7_forced_5 0 rfl rfl)
theorem dX7_forced_122 : decode cX7_forced 122 = .ok (.goto (-93), 3) := dk_167 255 163 (dk_at dksX7_forced_5 3 rfl rfl)
theorem dX7_forced_125 : decode cX7_forced 125 = .ok (.iload_n 1, 1) := dk_27 (dk_at dksX7_forced_5 6 rfl rfl)
theorem dX7_forced_126 : decode cX7_forced 126 = .ok (.ifCond .eq 7, 3) := dk_153 0 7 (dk_at dksX7_forced_5 7 rfl rfl)
theorem dX7_forced_129 : decode cX7_forced 129 = .ok (.iconst 2, 1) := dk_5 (dk_at dksX7_forced_5 10 rfl rfl)
theorem dX7_forced_130 : decode cX7_forced 130 = .ok (.goto 4, 3) := dk_167 0 4 (dk_at dksX7_forced_5 11 rfl rfl)
theorem dX7_forced_133 : decode cX7_forced 133 = .ok (.iconst (-1), 1) := dk_2 (dk_at dksX7_forced_5 14 rfl rfl)
theorem dX7_forced_134 : decode cX7_forced 134 = .ok (.ireturn, 1) := dk_172 (dk_at dksX7_forced_5 15 rfl rfl)
abbrev cX7_takesCrown : ByteArray := prog_25_method_90_code
def yX7_takesCrown : MethodName := ⟨RX7, "takesCrown", "()Z"⟩
def dkwX7_takesCrown_0 : List UInt8 := [42, 4, 42, 180, 0, 154, 4, 46, 100, 182, 2, 41, 172]
abbrev dktX7_takesCrown_0 : List UInt8 := dkwX7_takesCrown_0 ++ []
theorem dksX7_takesCrown_0 : cX7_takesCrown.data.toList.drop 0 = dktX7_takesCrown_0 := by decide +kernel
theorem dX7_takesCrown_0 : decode cX7_takesCrown 0 = .ok (.aload_n 0, 1) := dk_42 (dk_at dksX7_takesCrown_0 0 rfl rfl)
theorem dX7_takesCrown_1 : decode cX7_takesCrown 1 = .ok (.iconst 1, 1) := dk_4 (dk_at dksX7_takesCrown_0 1 rfl rfl)
theorem dX7_takesCrown_2 : decode cX7_takesCrown 2 = .ok (.aload_n 0, 1) := dk_42 (dk_at dksX7_takesCrown_0 2 rfl rfl)
theorem dX7_takesCrown_3 : decode cX7_takesCrown 3 = .ok (.getfield 154, 3) := dk_180 0 154 (dk_at dksX7_takesCrown_0 3 rfl rfl)
theorem dX7_takesCrown_6 : decode cX7_takesCrown 6 = .ok (.iconst 1, 1) := dk_4 (dk_at dksX7_takesCrown_0 6 rfl rfl)
theorem dX7_takesCrown_7 : decode cX7_takesCrown 7 = .ok (.iaload, 1) := dk_46 (dk_at dksX7_takesCrown_0 7 rfl rfl)
theorem dX7_takesCrown_8 : decode cX7_takesCrown 8 = .ok (.isub, 1) := dk_100 (dk_at dksX7_takesCrown_0 8 rfl rfl)
theorem dX7_takesCrown_9 : decode cX7_takesCrown 9 = .ok (.invokevirtual 553, 3) := dk_182 2 41 (dk_at dksX7_takesCrown_0 9 rfl rfl)
theorem dX7_takesCrown_12 : decode cX7_takesCrown 12 = .ok (.ireturn, 1) := dk_172 (dk_at dksX7_takesCrown_0 12 rfl rfl)
abbrev cX7_isForcedNow : ByteArray := prog_25_method_91_code
def yX7_isForcedNow : MethodName := ⟨RX7, "isForcedNow", "()Z"⟩
def dkwX7_isForcedNow_4 : List UInt8 := [132, 2, 1, 167, 255, 161, 27, 172]
abbrev dktX7_isForcedNow_4 : List UInt8 := dkwX7_isForcedNow_4 ++ []
def dkwX7_isForcedNow_3 : List UInt8 := [167, 0, 4, 3, 54, 4, 42, 4, 182, 1, 247, 21, 4, 154, 0, 5, 3, 172, 132, 3, 1, 167, 255, 177]
abbrev dktX7_isForcedNow_3 : List UInt8 := dkwX7_isForcedNow_3 ++ dktX7_isForcedNow_4
def dkwX7_isForcedNow_2 : List UInt8 := [4, 60, 42, 4, 28, 29, 182, 1, 240, 42, 182, 1, 228, 154, 0, 14, 42, 182, 2, 100, 153, 0, 7, 4]
abbrev dktX7_isForcedNow_2 : List UInt8 := dkwX7_isForcedNow_2 ++ dktX7_isForcedNow_3
def dkwX7_isForcedNow_1 : List UInt8 := [182, 1, 212, 42, 180, 0, 154, 4, 46, 160, 0, 57, 42, 28, 29, 182, 1, 218, 154, 0, 6, 167, 0, 45]
abbrev dktX7_isForcedNow_1 : List UInt8 := dkwX7_isForcedNow_1 ++ dktX7_isForcedNow_2
def dkwX7_isForcedNow_0 : List UInt8 := [3, 60, 3, 61, 28, 42, 182, 1, 177, 162, 0, 93, 3, 62, 29, 42, 182, 1, 215, 162, 0, 77, 42, 28]
abbrev dktX7_isForcedNow_0 : List UInt8 := dkwX7_isForcedNow_0 ++ dktX7_isForcedNow_1
theorem dksX7_isForcedNow_0 : cX7_isForcedNow.data.toList.drop 0 = dktX7_isForcedNow_0 := by decide +kernel
theorem dksX7_isForcedNow_1 : cX7_isForcedNow.data.toList.drop 24 = dktX7_isForcedNow_1 := dk_seg dksX7_isForcedNow_0 24 rfl rfl
theorem dksX7_isForcedNow_2 : cX7_isForcedNow.data.toList.drop 48 = dktX7_isForcedNow_2 := dk_seg dksX7_isForcedNow_1 24 rfl rfl
theorem dksX7_isForcedNow_3 : cX7_isForcedNow.data.toList.drop 72 = dktX7_isForcedNow_3 := dk_seg dksX7_isForcedNow_2 24 rfl rfl
theorem dksX7_isForcedNow_4 : cX7_isForcedNow.data.toList.drop 96 = dktX7_isForcedNow_4 := dk_seg dksX7_isForcedNow_3 24 rfl rfl
theorem dX7_isForcedNow_0 : decode cX7_isForcedNow 0 = .ok (.iconst 0, 1) := dk_3 (dk_at dksX7_isForcedNow_0 0 rfl rfl)
theorem dX7_isForcedNow_1 : decode cX7_isForcedNow 1 = .ok (.istore_n 1, 1) := dk_60 (dk_at dksX7_isForcedNow_0 1 rfl rfl)
theorem dX7_isForcedNow_2 : decode cX7_isForcedNow 2 = .ok (.iconst 0, 1) := dk_3 (dk_at dksX7_isForcedNow_0 2 rfl rfl)
theorem dX7_isForcedNow_3 : decode cX7_isForcedNow 3 = .ok (.istore_n 2, 1) := dk_61 (dk_at dksX7_isForcedNow_0 3 rfl rfl)
theorem dX7_isForcedNow_4 : decode cX7_isForcedNow 4 = .ok (.iload_n 2, 1) := dk_28 (dk_at dksX7_isForcedNow_0 4 rfl rfl)
theorem dX7_isForcedNow_5 : decode cX7_isForcedNow 5 = .ok (.aload_n 0, 1) := dk_42 (dk_at dksX7_isForcedNow_0 5 rfl rfl)
theorem dX7_isForcedNow_6 : decode cX7_isForcedNow 6 = .ok (.invokevirtual 433, 3) := dk_182 1 177 (dk_at dksX7_isForcedNow_0 6 rfl rfl)
theorem dX7_isForcedNow_9 : decode cX7_isForcedNow 9 = .ok (.if_icmp .ge 93, 3) := dk_162 0 93 (dk_at dksX7_isForcedNow_0 9 rfl rfl)
theorem dX7_isForcedNow_12 : decode cX7_isForcedNow 12 = .ok (.iconst 0, 1) := dk_3 (dk_at dksX7_isForcedNow_0 12 rfl rfl)
theorem dX7_isForcedNow_13 : decode cX7_isForcedNow 13 = .ok (.istore_n 3, 1) := dk_62 (dk_at dksX7_isForcedNow_0 13 rfl rfl)
theorem dX7_isForcedNow_14 : decode cX7_isForcedNow 14 = .ok (.iload_n 3, 1) := dk_29 (dk_at dksX7_isForcedNow_0 14 rfl rfl)
theorem dX7_isForcedNow_15 : decode cX7_isForcedNow 15 = .ok (.aload_n 0, 1) := dk_42 (dk_at dksX7_isForcedNow_0 15 rfl rfl)
theorem dX7_isForcedNow_16 : decode cX7_isForcedNow 16 = .ok (.invokevirtual 471, 3) := dk_182 1 215 (dk_at dksX7_isForcedNow_0 16 rfl rfl)
theorem dX7_isForcedNow_19 : decode cX7_isForcedNow 19 = .ok (.if_icmp .ge 77, 3) := dk_162 0 77 (dk_at dksX7_isForcedNow_0 19 rfl rfl)
theorem dX7_isForcedNow_22 : decode cX7_isForcedNow 22 = .ok (.aload_n 0, 1) := dk_42 (dk_at dksX7_isForcedNow_0 22 rfl rfl)
theorem dX7_isForcedNow_23 : decode cX7_isForcedNow 23 = .ok (.iload_n 2, 1) := dk_28 (dk_at dksX7_isForcedNow_0 23 rfl rfl)
theorem dX7_isForcedNow_24 : decode cX7_isForcedNow 24 = .ok (.invokevirtual 468, 3) := dk_182 1 212 (dk_at dksX7_isForcedNow_1 0 rfl rfl)
theorem dX7_isForcedNow_27 : decode cX7_isForcedNow 27 = .ok (.aload_n 0, 1) := dk_42 (dk_at dksX7_isForcedNow_1 3 rfl rfl)
theorem dX7_isForcedNow_28 : decode cX7_isForcedNow 28 = .ok (.getfield 154, 3) := dk_180 0 154 (dk_at dksX7_isForcedNow_1 4 rfl rfl)
theorem dX7_isForcedNow_31 : decode cX7_isForcedNow 31 = .ok (.iconst 1, 1) := dk_4 (dk_at dksX7_isForcedNow_1 7 rfl rfl)
theorem dX7_isForcedNow_32 : decode cX7_isForcedNow 32 = .ok (.iaload, 1) := dk_46 (dk_at dksX7_isForcedNow_1 8 rfl rfl)
theorem dX7_isForcedNow_33 : decode cX7_isForcedNow 33 = .ok (.if_icmp .ne 57, 3) := dk_160 0 57 (dk_at dksX7_isForcedNow_1 9 rfl rfl)
theorem dX7_isForcedNow_36 : decode cX7_isForcedNow 36 = .ok (.aload_n 0, 1) := dk_42 (dk_at dksX7_isForcedNow_1 12 rfl rfl)
theorem dX7_isForcedNow_37 : decode cX7_isForcedNow 37 = .ok (.iload_n 2, 1) := dk_28 (dk_at dksX7_isForcedNow_1 13 rfl rfl)
theorem dX7_isForcedNow_38 : decode cX7_isForcedNow 38 = .ok (.iload_n 3, 1) := dk_29 (dk_at dksX7_isForcedNow_1 14 rfl rfl)
theorem dX7_isForcedNow_39 : decode cX7_isForcedNow 39 = .ok (.invokevirtual 474, 3) := dk_182 1 218 (dk_at dksX7_isForcedNow_1 15 rfl rfl)
theorem dX7_isForcedNow_42 : decode cX7_isForcedNow 42 = .ok (.ifCond .ne 6, 3) := dk_154 0 6 (dk_at dksX7_isForcedNow_1 18 rfl rfl)
theorem dX7_isForcedNow_45 : decode cX7_isForcedNow 45 = .ok (.goto 45, 3) := dk_167 0 45 (dk_at dksX7_isForcedNow_1 21 rfl rfl)
theorem dX7_isForcedNow_48 : decode cX7_isForcedNow 48 = .ok (.iconst 1, 1) := dk_4 (dk_at dksX7_isForcedNow_2 0 rfl rfl)
theorem dX7_isForcedNow_49 : decode cX7_isForcedNow 49 = .ok (.istore_n 1, 1) := dk_60 (dk_at dksX7_isForcedNow_2 1 rfl rfl)
theorem dX7_isForcedNow_50 : decode cX7_isForcedNow 50 = .ok (.aload_n 0, 1) := dk_42 (dk_at dksX7_isForcedNow_2 2 rfl rfl)
theorem dX7_isForcedNow_51 : decode cX7_isForcedNow 51 = .ok (.iconst 1, 1) := dk_4 (dk_at dksX7_isForcedNow_2 3 rfl rfl)
theorem dX7_isForcedNow_52 : decode cX7_isForcedNow 52 = .ok (.iload_n 2, 1) := dk_28 (dk_at dksX7_isForcedNow_2 4 rfl rfl)
theorem dX7_isForcedNow_53 : decode cX7_isForcedNow 53 = .ok (.iload_n 3, 1) := dk_29 (dk_at dksX7_isForcedNow_2 5 rfl rfl)
theorem dX7_isForcedNow_54 : decode cX7_isForcedNow 54 = .ok (.invokevirtual 496, 3) := dk_182 1 240 (dk_at dksX7_isForcedNow_2 6 rfl rfl)
theorem dX7_isForcedNow_57 : decode cX7_isForcedNow 57 = .ok (.aload_n 0, 1) := dk_42 (dk_at dksX7_isForcedNow_2 9 rfl rfl)
theorem dX7_isForcedNow_58 : decode cX7_isForcedNow 58 = .ok (.invokevirtual 484, 3) := dk_182 1 228 (dk_at dksX7_isForcedNow_2 10 rfl rfl)
theorem dX7_isForcedNow_61 : decode cX7_isForcedNow 61 = .ok (.ifCond .ne 14, 3) := dk_154 0 14 (dk_at dksX7_isForcedNow_2 13 rfl rfl)
theorem dX7_isForcedNow_64 : decode cX7_isForcedNow 64 = .ok (.aload_n 0, 1) := dk_42 (dk_at dksX7_isForcedNow_2 16 rfl rfl)
theorem dX7_isForcedNow_65 : decode cX7_isForcedNow 65 = .ok (.invokevirtual 612, 3) := dk_182 2 100 (dk_at dksX7_isForcedNow_2 17 rfl rfl)
theorem dX7_isForcedNow_68 : decode cX7_isForcedNow 68 = .ok (.ifCond .eq 7, 3) := dk_153 0 7 (dk_at dksX7_isForcedNow_2 20 rfl rfl)
theorem dX7_isForcedNow_71 : decode cX7_isForcedNow 71 = .ok (.iconst 1, 1) := dk_4 (dk_at dksX7_isForcedNow_2 23 rfl rfl)
theorem dX7_isForcedNow_72 : decode cX7_isForcedNow 72 = .ok (.goto 4, 3) := dk_167 0 4 (dk_at dksX7_isForcedNow_3 0 rfl rfl)
theorem dX7_isForcedNow_75 : decode cX7_isForcedNow 75 = .ok (.iconst 0, 1) := dk_3 (dk_at dksX7_isForcedNow_3 3 rfl rfl)
theorem dX7_isForcedNow_76 : decode cX7_isForcedNow 76 = .ok (.istore 4, 2) := dk_54 4 (dk_at dksX7_isForcedNow_3 4 rfl rfl)
theorem dX7_isForcedNow_78 : decode cX7_isForcedNow 78 = .ok (.aload_n 0, 1) := dk_42 (dk_at dksX7_isForcedNow_3 6 rfl rfl)
theorem dX7_isForcedNow_79 : decode cX7_isForcedNow 79 = .ok (.iconst 1, 1) := dk_4 (dk_at dksX7_isForcedNow_3 7 rfl rfl)
theorem dX7_isForcedNow_80 : decode cX7_isForcedNow 80 = .ok (.invokevirtual 503, 3) := dk_182 1 247 (dk_at dksX7_isForcedNow_3 8 rfl rfl)
theorem dX7_isForcedNow_83 : decode cX7_isForcedNow 83 = .ok (.iload 4, 2) := dk_21 4 (dk_at dksX7_isForcedNow_3 11 rfl rfl)
theorem dX7_isForcedNow_85 : decode cX7_isForcedNow 85 = .ok (.ifCond .ne 5, 3) := dk_154 0 5 (dk_at dksX7_isForcedNow_3 13 rfl rfl)
theorem dX7_isForcedNow_88 : decode cX7_isForcedNow 88 = .ok (.iconst 0, 1) := dk_3 (dk_at dksX7_isForcedNow_3 16 rfl rfl)
theorem dX7_isForcedNow_89 : decode cX7_isForcedNow 89 = .ok (.ireturn, 1) := dk_172 (dk_at dksX7_isForcedNow_3 17 rfl rfl)
theorem dX7_isForcedNow_90 : decode cX7_isForcedNow 90 = .ok (.iinc 3 1, 3) := dk_132 3 1 (dk_at dksX7_isForcedNow_3 18 rfl rfl)
theorem dX7_isForcedNow_93 : decode cX7_isForcedNow 93 = .ok (.goto (-79), 3) := dk_167 255 177 (dk_at dksX7_isForcedNow_3 21 rfl rfl)
theorem dX7_isForcedNow_96 : decode cX7_isForcedNow 96 = .ok (.iinc 2 1, 3) := dk_132 2 1 (dk_at dksX7_isForcedNow_4 0 rfl rfl)
theorem dX7_isForcedNow_99 : decode cX7_isForcedNow 99 = .ok (.goto (-95), 3) := dk_167 255 161 (dk_at dksX7_isForcedNow_4 3 rfl rfl)
theorem dX7_isForcedNow_102 : decode cX7_isForcedNow 102 = .ok (.iload_n 1, 1) := dk_27 (dk_at dksX7_isForcedNow_4 6 rfl rfl)
theorem dX7_isForcedNow_103 : decode cX7_isForcedNow 103 = .ok (.ireturn, 1) := dk_172 (dk_at dksX7_isForcedNow_4 7 rfl rfl)
abbrev cX7_later : ByteArray := prog_25_method_93_code
def yX7_later : MethodName := ⟨RX7, "later", "(II)I"⟩
def dkwX7_later_3 : List UInt8 := [42, 182, 2, 115, 29, 172]
abbrev dktX7_later_3 : List UInt8 := dkwX7_later_3 ++ []
def dkwX7_later_2 : List UInt8 := [5, 160, 0, 10, 42, 182, 2, 78, 167, 0, 15, 42, 182, 2, 72, 153, 0, 7, 4, 167, 0, 4, 3, 62]
abbrev dktX7_later_2 : List UInt8 := dkwX7_later_2 ++ dktX7_later_3
def dkwX7_later_1 : List UInt8 := [172, 42, 182, 2, 109, 42, 27, 182, 2, 112, 28, 5, 162, 0, 11, 42, 28, 182, 2, 75, 167, 0, 27, 28]
abbrev dktX7_later_1 : List UInt8 := dkwX7_later_1 ++ dktX7_later_2
def dkwX7_later_0 : List UInt8 := [42, 27, 3, 16, 20, 182, 2, 106, 153, 0, 15, 28, 133, 9, 20, 2, 85, 184, 1, 65, 154, 0, 5, 2]
abbrev dktX7_later_0 : List UInt8 := dkwX7_later_0 ++ dktX7_later_1
theorem dksX7_later_0 : cX7_later.data.toList.drop 0 = dktX7_later_0 := by decide +kernel
theorem dksX7_later_1 : cX7_later.data.toList.drop 24 = dktX7_later_1 := dk_seg dksX7_later_0 24 rfl rfl
theorem dksX7_later_2 : cX7_later.data.toList.drop 48 = dktX7_later_2 := dk_seg dksX7_later_1 24 rfl rfl
theorem dksX7_later_3 : cX7_later.data.toList.drop 72 = dktX7_later_3 := dk_seg dksX7_later_2 24 rfl rfl
theorem dX7_later_0 : decode cX7_later 0 = .ok (.aload_n 0, 1) := dk_42 (dk_at dksX7_later_0 0 rfl rfl)
theorem dX7_later_1 : decode cX7_later 1 = .ok (.iload_n 1, 1) := dk_27 (dk_at dksX7_later_0 1 rfl rfl)
theorem dX7_later_2 : decode cX7_later 2 = .ok (.iconst 0, 1) := dk_3 (dk_at dksX7_later_0 2 rfl rfl)
theorem dX7_later_3 : decode cX7_later 3 = .ok (.bipush 20, 2) := dk_16 20 (dk_at dksX7_later_0 3 rfl rfl)
theorem dX7_later_5 : decode cX7_later 5 = .ok (.invokevirtual 618, 3) := dk_182 2 106 (dk_at dksX7_later_0 5 rfl rfl)
theorem dX7_later_8 : decode cX7_later 8 = .ok (.ifCond .eq 15, 3) := dk_153 0 15 (dk_at dksX7_later_0 8 rfl rfl)
theorem dX7_later_11 : decode cX7_later 11 = .ok (.iload_n 2, 1) := dk_28 (dk_at dksX7_later_0 11 rfl rfl)
theorem dX7_later_12 : decode cX7_later 12 = .ok (.i2l, 1) := dk_133 (dk_at dksX7_later_0 12 rfl rfl)
theorem dX7_later_13 : decode cX7_later 13 = .ok (.lconst 0, 1) := dk_9 (dk_at dksX7_later_0 13 rfl rfl)
theorem dX7_later_14 : decode cX7_later 14 = .ok (.ldc2_w 597, 3) := dk_20 2 85 (dk_at dksX7_later_0 14 rfl rfl)
theorem dX7_later_17 : decode cX7_later 17 = .ok (.invokestatic 321, 3) := dk_184 1 65 (dk_at dksX7_later_0 17 rfl rfl)
theorem dX7_later_20 : decode cX7_later 20 = .ok (.ifCond .ne 5, 3) := dk_154 0 5 (dk_at dksX7_later_0 20 rfl rfl)
theorem dX7_later_23 : decode cX7_later 23 = .ok (.iconst (-1), 1) := dk_2 (dk_at dksX7_later_0 23 rfl rfl)
theorem dX7_later_24 : decode cX7_later 24 = .ok (.ireturn, 1) := dk_172 (dk_at dksX7_later_1 0 rfl rfl)
theorem dX7_later_25 : decode cX7_later 25 = .ok (.aload_n 0, 1) := dk_42 (dk_at dksX7_later_1 1 rfl rfl)
theorem dX7_later_26 : decode cX7_later 26 = .ok (.invokevirtual 621, 3) := dk_182 2 109 (dk_at dksX7_later_1 2 rfl rfl)
theorem dX7_later_29 : decode cX7_later 29 = .ok (.aload_n 0, 1) := dk_42 (dk_at dksX7_later_1 5 rfl rfl)
theorem dX7_later_30 : decode cX7_later 30 = .ok (.iload_n 1, 1) := dk_27 (dk_at dksX7_later_1 6 rfl rfl)
theorem dX7_later_31 : decode cX7_later 31 = .ok (.invokevirtual 624, 3) := dk_182 2 112 (dk_at dksX7_later_1 7 rfl rfl)
theorem dX7_later_34 : decode cX7_later 34 = .ok (.iload_n 2, 1) := dk_28 (dk_at dksX7_later_1 10 rfl rfl)
theorem dX7_later_35 : decode cX7_later 35 = .ok (.iconst 2, 1) := dk_5 (dk_at dksX7_later_1 11 rfl rfl)
theorem dX7_later_36 : decode cX7_later 36 = .ok (.if_icmp .ge 11, 3) := dk_162 0 11 (dk_at dksX7_later_1 12 rfl rfl)
theorem dX7_later_39 : decode cX7_later 39 = .ok (.aload_n 0, 1) := dk_42 (dk_at dksX7_later_1 15 rfl rfl)
theorem dX7_later_40 : decode cX7_later 40 = .ok (.iload_n 2, 1) := dk_28 (dk_at dksX7_later_1 16 rfl rfl)
theorem dX7_later_41 : decode cX7_later 41 = .ok (.invokevirtual 587, 3) := dk_182 2 75 (dk_at dksX7_later_1 17 rfl rfl)
theorem dX7_later_44 : decode cX7_later 44 = .ok (.goto 27, 3) := dk_167 0 27 (dk_at dksX7_later_1 20 rfl rfl)
theorem dX7_later_47 : decode cX7_later 47 = .ok (.iload_n 2, 1) := dk_28 (dk_at dksX7_later_1 23 rfl rfl)
theorem dX7_later_48 : decode cX7_later 48 = .ok (.iconst 2, 1) := dk_5 (dk_at dksX7_later_2 0 rfl rfl)
theorem dX7_later_49 : decode cX7_later 49 = .ok (.if_icmp .ne 10, 3) := dk_160 0 10 (dk_at dksX7_later_2 1 rfl rfl)
theorem dX7_later_52 : decode cX7_later 52 = .ok (.aload_n 0, 1) := dk_42 (dk_at dksX7_later_2 4 rfl rfl)
theorem dX7_later_53 : decode cX7_later 53 = .ok (.invokevirtual 590, 3) := dk_182 2 78 (dk_at dksX7_later_2 5 rfl rfl)
theorem dX7_later_56 : decode cX7_later 56 = .ok (.goto 15, 3) := dk_167 0 15 (dk_at dksX7_later_2 8 rfl rfl)
theorem dX7_later_59 : decode cX7_later 59 = .ok (.aload_n 0, 1) := dk_42 (dk_at dksX7_later_2 11 rfl rfl)
theorem dX7_later_60 : decode cX7_later 60 = .ok (.invokevirtual 584, 3) := dk_182 2 72 (dk_at dksX7_later_2 12 rfl rfl)
theorem dX7_later_63 : decode cX7_later 63 = .ok (.ifCond .eq 7, 3) := dk_153 0 7 (dk_at dksX7_later_2 15 rfl rfl)
theorem dX7_later_66 : decode cX7_later 66 = .ok (.iconst 1, 1) := dk_4 (dk_at dksX7_later_2 18 rfl rfl)
theorem dX7_later_67 : decode cX7_later 67 = .ok (.goto 4, 3) := dk_167 0 4 (dk_at dksX7_later_2 19 rfl rfl)
theorem dX7_later_70 : decode cX7_later 70 = .ok (.iconst 0, 1) := dk_3 (dk_at dksX7_later_2 22 rfl rfl)
theorem dX7_later_71 : decode cX7_later 71 = .ok (.istore_n 3, 1) := dk_62 (dk_at dksX7_later_2 23 rfl rfl)
theorem dX7_later_72 : decode cX7_later 72 = .ok (.aload_n 0, 1) := dk_42 (dk_at dksX7_later_3 0 rfl rfl)
theorem dX7_later_73 : decode cX7_later 73 = .ok (.invokevirtual 627, 3) := dk_182 2 115 (dk_at dksX7_later_3 1 rfl rfl)
theorem dX7_later_76 : decode cX7_later 76 = .ok (.iload_n 3, 1) := dk_29 (dk_at dksX7_later_3 4 rfl rfl)
theorem dX7_later_77 : decode cX7_later 77 = .ok (.ireturn, 1) := dk_172 (dk_at dksX7_later_3 5 rfl rfl)
abbrev cX7_isAhead : ByteArray := prog_25_method_76_code
def yX7_isAhead : MethodName := ⟨RX7, "isAhead", "(III)Z"⟩
def dkwX7_isAhead_1 : List UInt8 := [46, 27, 96, 17, 3, 231, 163, 0, 7, 4, 167, 0, 4, 3, 172]
abbrev dktX7_isAhead_1 : List UInt8 := dkwX7_isAhead_1 ++ []
def dkwX7_isAhead_0 : List UInt8 := [42, 180, 1, 168, 153, 0, 33, 27, 133, 28, 133, 29, 133, 184, 1, 65, 153, 0, 21, 42, 180, 0, 154, 3]
abbrev dktX7_isAhead_0 : List UInt8 := dkwX7_isAhead_0 ++ dktX7_isAhead_1
theorem dksX7_isAhead_0 : cX7_isAhead.data.toList.drop 0 = dktX7_isAhead_0 := by decide +kernel
theorem dksX7_isAhead_1 : cX7_isAhead.data.toList.drop 24 = dktX7_isAhead_1 := dk_seg dksX7_isAhead_0 24 rfl rfl
theorem dX7_isAhead_0 : decode cX7_isAhead 0 = .ok (.aload_n 0, 1) := dk_42 (dk_at dksX7_isAhead_0 0 rfl rfl)
theorem dX7_isAhead_1 : decode cX7_isAhead 1 = .ok (.getfield 424, 3) := dk_180 1 168 (dk_at dksX7_isAhead_0 1 rfl rfl)
theorem dX7_isAhead_4 : decode cX7_isAhead 4 = .ok (.ifCond .eq 33, 3) := dk_153 0 33 (dk_at dksX7_isAhead_0 4 rfl rfl)
theorem dX7_isAhead_7 : decode cX7_isAhead 7 = .ok (.iload_n 1, 1) := dk_27 (dk_at dksX7_isAhead_0 7 rfl rfl)
theorem dX7_isAhead_8 : decode cX7_isAhead 8 = .ok (.i2l, 1) := dk_133 (dk_at dksX7_isAhead_0 8 rfl rfl)
theorem dX7_isAhead_9 : decode cX7_isAhead 9 = .ok (.iload_n 2, 1) := dk_28 (dk_at dksX7_isAhead_0 9 rfl rfl)
theorem dX7_isAhead_10 : decode cX7_isAhead 10 = .ok (.i2l, 1) := dk_133 (dk_at dksX7_isAhead_0 10 rfl rfl)
theorem dX7_isAhead_11 : decode cX7_isAhead 11 = .ok (.iload_n 3, 1) := dk_29 (dk_at dksX7_isAhead_0 11 rfl rfl)
theorem dX7_isAhead_12 : decode cX7_isAhead 12 = .ok (.i2l, 1) := dk_133 (dk_at dksX7_isAhead_0 12 rfl rfl)
theorem dX7_isAhead_13 : decode cX7_isAhead 13 = .ok (.invokestatic 321, 3) := dk_184 1 65 (dk_at dksX7_isAhead_0 13 rfl rfl)
theorem dX7_isAhead_16 : decode cX7_isAhead 16 = .ok (.ifCond .eq 21, 3) := dk_153 0 21 (dk_at dksX7_isAhead_0 16 rfl rfl)
theorem dX7_isAhead_19 : decode cX7_isAhead 19 = .ok (.aload_n 0, 1) := dk_42 (dk_at dksX7_isAhead_0 19 rfl rfl)
theorem dX7_isAhead_20 : decode cX7_isAhead 20 = .ok (.getfield 154, 3) := dk_180 0 154 (dk_at dksX7_isAhead_0 20 rfl rfl)
theorem dX7_isAhead_23 : decode cX7_isAhead 23 = .ok (.iconst 0, 1) := dk_3 (dk_at dksX7_isAhead_0 23 rfl rfl)
theorem dX7_isAhead_24 : decode cX7_isAhead 24 = .ok (.iaload, 1) := dk_46 (dk_at dksX7_isAhead_1 0 rfl rfl)
theorem dX7_isAhead_25 : decode cX7_isAhead 25 = .ok (.iload_n 1, 1) := dk_27 (dk_at dksX7_isAhead_1 1 rfl rfl)
theorem dX7_isAhead_26 : decode cX7_isAhead 26 = .ok (.iadd, 1) := dk_96 (dk_at dksX7_isAhead_1 2 rfl rfl)
theorem dX7_isAhead_27 : decode cX7_isAhead 27 = .ok (.sipush 999, 3) := dk_17 3 231 (dk_at dksX7_isAhead_1 3 rfl rfl)
theorem dX7_isAhead_30 : decode cX7_isAhead 30 = .ok (.if_icmp .gt 7, 3) := dk_163 0 7 (dk_at dksX7_isAhead_1 6 rfl rfl)
theorem dX7_isAhead_33 : decode cX7_isAhead 33 = .ok (.iconst 1, 1) := dk_4 (dk_at dksX7_isAhead_1 9 rfl rfl)
theorem dX7_isAhead_34 : decode cX7_isAhead 34 = .ok (.goto 4, 3) := dk_167 0 4 (dk_at dksX7_isAhead_1 10 rfl rfl)
theorem dX7_isAhead_37 : decode cX7_isAhead 37 = .ok (.iconst 0, 1) := dk_3 (dk_at dksX7_isAhead_1 13 rfl rfl)
theorem dX7_isAhead_38 : decode cX7_isAhead 38 = .ok (.ireturn, 1) := dk_172 (dk_at dksX7_isAhead_1 14 rfl rfl)
abbrev cX7_putsAside : ByteArray := prog_25_method_73_code
def yX7_putsAside : MethodName := ⟨RX7, "putsAside", "()V"⟩
def dkwX7_putsAside_1 : List UInt8 := [79, 132, 1, 1, 167, 255, 235, 177]
abbrev dktX7_putsAside_1 : List UInt8 := dkwX7_putsAside_1 ++ []
def dkwX7_putsAside_0 : List UInt8 := [42, 4, 181, 2, 35, 3, 60, 27, 16, 24, 162, 0, 21, 42, 180, 0, 157, 27, 42, 180, 0, 154, 27, 46]
abbrev dktX7_putsAside_0 : List UInt8 := dkwX7_putsAside_0 ++ dktX7_putsAside_1
theorem dksX7_putsAside_0 : cX7_putsAside.data.toList.drop 0 = dktX7_putsAside_0 := by decide +kernel
theorem dksX7_putsAside_1 : cX7_putsAside.data.toList.drop 24 = dktX7_putsAside_1 := dk_seg dksX7_putsAside_0 24 rfl rfl
theorem dX7_putsAside_0 : decode cX7_putsAside 0 = .ok (.aload_n 0, 1) := dk_42 (dk_at dksX7_putsAside_0 0 rfl rfl)
theorem dX7_putsAside_1 : decode cX7_putsAside 1 = .ok (.iconst 1, 1) := dk_4 (dk_at dksX7_putsAside_0 1 rfl rfl)
theorem dX7_putsAside_2 : decode cX7_putsAside 2 = .ok (.putfield 547, 3) := dk_181 2 35 (dk_at dksX7_putsAside_0 2 rfl rfl)
theorem dX7_putsAside_5 : decode cX7_putsAside 5 = .ok (.iconst 0, 1) := dk_3 (dk_at dksX7_putsAside_0 5 rfl rfl)
theorem dX7_putsAside_6 : decode cX7_putsAside 6 = .ok (.istore_n 1, 1) := dk_60 (dk_at dksX7_putsAside_0 6 rfl rfl)
theorem dX7_putsAside_7 : decode cX7_putsAside 7 = .ok (.iload_n 1, 1) := dk_27 (dk_at dksX7_putsAside_0 7 rfl rfl)
theorem dX7_putsAside_8 : decode cX7_putsAside 8 = .ok (.bipush 24, 2) := dk_16 24 (dk_at dksX7_putsAside_0 8 rfl rfl)
theorem dX7_putsAside_10 : decode cX7_putsAside 10 = .ok (.if_icmp .ge 21, 3) := dk_162 0 21 (dk_at dksX7_putsAside_0 10 rfl rfl)
theorem dX7_putsAside_13 : decode cX7_putsAside 13 = .ok (.aload_n 0, 1) := dk_42 (dk_at dksX7_putsAside_0 13 rfl rfl)
theorem dX7_putsAside_14 : decode cX7_putsAside 14 = .ok (.getfield 157, 3) := dk_180 0 157 (dk_at dksX7_putsAside_0 14 rfl rfl)
theorem dX7_putsAside_17 : decode cX7_putsAside 17 = .ok (.iload_n 1, 1) := dk_27 (dk_at dksX7_putsAside_0 17 rfl rfl)
theorem dX7_putsAside_18 : decode cX7_putsAside 18 = .ok (.aload_n 0, 1) := dk_42 (dk_at dksX7_putsAside_0 18 rfl rfl)
theorem dX7_putsAside_19 : decode cX7_putsAside 19 = .ok (.getfield 154, 3) := dk_180 0 154 (dk_at dksX7_putsAside_0 19 rfl rfl)
theorem dX7_putsAside_22 : decode cX7_putsAside 22 = .ok (.iload_n 1, 1) := dk_27 (dk_at dksX7_putsAside_0 22 rfl rfl)
theorem dX7_putsAside_23 : decode cX7_putsAside 23 = .ok (.iaload, 1) := dk_46 (dk_at dksX7_putsAside_0 23 rfl rfl)
theorem dX7_putsAside_24 : decode cX7_putsAside 24 = .ok (.iastore, 1) := dk_79 (dk_at dksX7_putsAside_1 0 rfl rfl)
theorem dX7_putsAside_25 : decode cX7_putsAside 25 = .ok (.iinc 1 1, 3) := dk_132 1 1 (dk_at dksX7_putsAside_1 1 rfl rfl)
theorem dX7_putsAside_28 : decode cX7_putsAside 28 = .ok (.goto (-21), 3) := dk_167 255 235 (dk_at dksX7_putsAside_1 4 rfl rfl)
theorem dX7_putsAside_31 : decode cX7_putsAside 31 = .ok (.return_, 1) := dk_177 (dk_at dksX7_putsAside_1 7 rfl rfl)
abbrev cX7_daysGo : ByteArray := prog_25_method_72_code
def yX7_daysGo : MethodName := ⟨RX7, "daysGo", "(I)V"⟩
def dkwX7_daysGo_0 : List UInt8 := [3, 61, 28, 27, 162, 0, 17, 42, 182, 2, 63, 42, 182, 2, 66, 132, 2, 1, 167, 255, 240, 177]
abbrev dktX7_daysGo_0 : List UInt8 := dkwX7_daysGo_0 ++ []
theorem dksX7_daysGo_0 : cX7_daysGo.data.toList.drop 0 = dktX7_daysGo_0 := by decide +kernel
theorem dX7_daysGo_0 : decode cX7_daysGo 0 = .ok (.iconst 0, 1) := dk_3 (dk_at dksX7_daysGo_0 0 rfl rfl)
theorem dX7_daysGo_1 : decode cX7_daysGo 1 = .ok (.istore_n 2, 1) := dk_61 (dk_at dksX7_daysGo_0 1 rfl rfl)
theorem dX7_daysGo_2 : decode cX7_daysGo 2 = .ok (.iload_n 2, 1) := dk_28 (dk_at dksX7_daysGo_0 2 rfl rfl)
theorem dX7_daysGo_3 : decode cX7_daysGo 3 = .ok (.iload_n 1, 1) := dk_27 (dk_at dksX7_daysGo_0 3 rfl rfl)
theorem dX7_daysGo_4 : decode cX7_daysGo 4 = .ok (.if_icmp .ge 17, 3) := dk_162 0 17 (dk_at dksX7_daysGo_0 4 rfl rfl)
theorem dX7_daysGo_7 : decode cX7_daysGo 7 = .ok (.aload_n 0, 1) := dk_42 (dk_at dksX7_daysGo_0 7 rfl rfl)
theorem dX7_daysGo_8 : decode cX7_daysGo 8 = .ok (.invokevirtual 575, 3) := dk_182 2 63 (dk_at dksX7_daysGo_0 8 rfl rfl)
theorem dX7_daysGo_11 : decode cX7_daysGo 11 = .ok (.aload_n 0, 1) := dk_42 (dk_at dksX7_daysGo_0 11 rfl rfl)
theorem dX7_daysGo_12 : decode cX7_daysGo 12 = .ok (.invokevirtual 578, 3) := dk_182 2 66 (dk_at dksX7_daysGo_0 12 rfl rfl)
theorem dX7_daysGo_15 : decode cX7_daysGo 15 = .ok (.iinc 2 1, 3) := dk_132 2 1 (dk_at dksX7_daysGo_0 15 rfl rfl)
theorem dX7_daysGo_18 : decode cX7_daysGo 18 = .ok (.goto (-16), 3) := dk_167 255 240 (dk_at dksX7_daysGo_0 18 rfl rfl)
theorem dX7_daysGo_21 : decode cX7_daysGo 21 = .ok (.return_, 1) := dk_177 (dk_at dksX7_daysGo_0 21 rfl rfl)
abbrev cX7_choosesToday : ByteArray := prog_25_method_71_code
def yX7_choosesToday : MethodName := ⟨RX7, "choosesToday", "()V"⟩
def dkwX7_choosesToday_1 : List UInt8 := [180, 0, 127, 16, 6, 42, 180, 0, 154, 4, 46, 96, 46, 182, 2, 60, 177]
abbrev dktX7_choosesToday_1 : List UInt8 := dkwX7_choosesToday_1 ++ []
def dkwX7_choosesToday_0 : List UInt8 := [42, 42, 180, 0, 154, 4, 46, 42, 180, 0, 178, 160, 0, 10, 42, 180, 2, 57, 167, 0, 17, 42]
abbrev dktX7_choosesToday_0 : List UInt8 := dkwX7_choosesToday_0 ++ dktX7_choosesToday_1
theorem dksX7_choosesToday_0 : cX7_choosesToday.data.toList.drop 0 = dktX7_choosesToday_0 := by decide +kernel
theorem dksX7_choosesToday_1 : cX7_choosesToday.data.toList.drop 22 = dktX7_choosesToday_1 := dk_seg dksX7_choosesToday_0 22 rfl rfl
theorem dX7_choosesToday_0 : decode cX7_choosesToday 0 = .ok (.aload_n 0, 1) := dk_42 (dk_at dksX7_choosesToday_0 0 rfl rfl)
theorem dX7_choosesToday_1 : decode cX7_choosesToday 1 = .ok (.aload_n 0, 1) := dk_42 (dk_at dksX7_choosesToday_0 1 rfl rfl)
theorem dX7_choosesToday_2 : decode cX7_choosesToday 2 = .ok (.getfield 154, 3) := dk_180 0 154 (dk_at dksX7_choosesToday_0 2 rfl rfl)
theorem dX7_choosesToday_5 : decode cX7_choosesToday 5 = .ok (.iconst 1, 1) := dk_4 (dk_at dksX7_choosesToday_0 5 rfl rfl)
theorem dX7_choosesToday_6 : decode cX7_choosesToday 6 = .ok (.iaload, 1) := dk_46 (dk_at dksX7_choosesToday_0 6 rfl rfl)
theorem dX7_choosesToday_7 : decode cX7_choosesToday 7 = .ok (.aload_n 0, 1) := dk_42 (dk_at dksX7_choosesToday_0 7 rfl rfl)
theorem dX7_choosesToday_8 : decode cX7_choosesToday 8 = .ok (.getfield 178, 3) := dk_180 0 178 (dk_at dksX7_choosesToday_0 8 rfl rfl)
theorem dX7_choosesToday_11 : decode cX7_choosesToday 11 = .ok (.if_icmp .ne 10, 3) := dk_160 0 10 (dk_at dksX7_choosesToday_0 11 rfl rfl)
theorem dX7_choosesToday_14 : decode cX7_choosesToday 14 = .ok (.aload_n 0, 1) := dk_42 (dk_at dksX7_choosesToday_0 14 rfl rfl)
theorem dX7_choosesToday_15 : decode cX7_choosesToday 15 = .ok (.getfield 569, 3) := dk_180 2 57 (dk_at dksX7_choosesToday_0 15 rfl rfl)
theorem dX7_choosesToday_18 : decode cX7_choosesToday 18 = .ok (.goto 17, 3) := dk_167 0 17 (dk_at dksX7_choosesToday_0 18 rfl rfl)
theorem dX7_choosesToday_21 : decode cX7_choosesToday 21 = .ok (.aload_n 0, 1) := dk_42 (dk_at dksX7_choosesToday_0 21 rfl rfl)
theorem dX7_choosesToday_22 : decode cX7_choosesToday 22 = .ok (.getfield 127, 3) := dk_180 0 127 (dk_at dksX7_choosesToday_1 0 rfl rfl)
theorem dX7_choosesToday_25 : decode cX7_choosesToday 25 = .ok (.bipush 6, 2) := dk_16 6 (dk_at dksX7_choosesToday_1 3 rfl rfl)
theorem dX7_choosesToday_27 : decode cX7_choosesToday 27 = .ok (.aload_n 0, 1) := dk_42 (dk_at dksX7_choosesToday_1 5 rfl rfl)
theorem dX7_choosesToday_28 : decode cX7_choosesToday 28 = .ok (.getfield 154, 3) := dk_180 0 154 (dk_at dksX7_choosesToday_1 6 rfl rfl)
theorem dX7_choosesToday_31 : decode cX7_choosesToday 31 = .ok (.iconst 1, 1) := dk_4 (dk_at dksX7_choosesToday_1 9 rfl rfl)
theorem dX7_choosesToday_32 : decode cX7_choosesToday 32 = .ok (.iaload, 1) := dk_46 (dk_at dksX7_choosesToday_1 10 rfl rfl)
theorem dX7_choosesToday_33 : decode cX7_choosesToday 33 = .ok (.iadd, 1) := dk_96 (dk_at dksX7_choosesToday_1 11 rfl rfl)
theorem dX7_choosesToday_34 : decode cX7_choosesToday 34 = .ok (.iaload, 1) := dk_46 (dk_at dksX7_choosesToday_1 12 rfl rfl)
theorem dX7_choosesToday_35 : decode cX7_choosesToday 35 = .ok (.invokevirtual 572, 3) := dk_182 2 60 (dk_at dksX7_choosesToday_1 13 rfl rfl)
theorem dX7_choosesToday_38 : decode cX7_choosesToday 38 = .ok (.return_, 1) := dk_177 (dk_at dksX7_choosesToday_1 16 rfl rfl)
abbrev cX7_dayGoes : ByteArray := prog_25_method_70_code
def yX7_dayGoes : MethodName := ⟨RX7, "dayGoes", "()V"⟩
def dkwX7_dayGoes_4 : List UInt8 := [132, 1, 1, 167, 255, 192, 42, 180, 0, 154, 3, 92, 46, 4, 96, 79, 177]
abbrev dktX7_dayGoes_4 : List UInt8 := dkwX7_dayGoes_4 ++ []
def dkwX7_dayGoes_3 : List UInt8 := [17, 3, 231, 167, 0, 19, 42, 180, 0, 154, 16, 18, 27, 96, 46, 42, 180, 0, 142, 5, 46, 96, 79]
abbrev dktX7_dayGoes_3 : List UInt8 := dkwX7_dayGoes_3 ++ dktX7_dayGoes_4
def dkwX7_dayGoes_2 : List UInt8 := [96, 42, 180, 0, 154, 16, 18, 27, 96, 46, 42, 180, 0, 142, 5, 46, 96, 17, 3, 231, 164, 0, 9]
abbrev dktX7_dayGoes_2 : List UInt8 := dkwX7_dayGoes_2 ++ dktX7_dayGoes_3
def dkwX7_dayGoes_1 : List UInt8 := [167, 0, 7, 42, 182, 2, 54, 3, 60, 27, 42, 182, 1, 180, 162, 0, 62, 42, 180, 0, 154, 16, 18, 27]
abbrev dktX7_dayGoes_1 : List UInt8 := dkwX7_dayGoes_1 ++ dktX7_dayGoes_2
def dkwX7_dayGoes_0 : List UInt8 := [42, 180, 2, 3, 2, 160, 0, 20, 42, 180, 0, 154, 4, 4, 42, 180, 0, 154, 4, 46, 100, 79]
abbrev dktX7_dayGoes_0 : List UInt8 := dkwX7_dayGoes_0 ++ dktX7_dayGoes_1
theorem dksX7_dayGoes_0 : cX7_dayGoes.data.toList.drop 0 = dktX7_dayGoes_0 := by decide +kernel
theorem dksX7_dayGoes_1 : cX7_dayGoes.data.toList.drop 22 = dktX7_dayGoes_1 := dk_seg dksX7_dayGoes_0 22 rfl rfl
theorem dksX7_dayGoes_2 : cX7_dayGoes.data.toList.drop 46 = dktX7_dayGoes_2 := dk_seg dksX7_dayGoes_1 24 rfl rfl
theorem dksX7_dayGoes_3 : cX7_dayGoes.data.toList.drop 69 = dktX7_dayGoes_3 := dk_seg dksX7_dayGoes_2 23 rfl rfl
theorem dksX7_dayGoes_4 : cX7_dayGoes.data.toList.drop 92 = dktX7_dayGoes_4 := dk_seg dksX7_dayGoes_3 23 rfl rfl
theorem dX7_dayGoes_0 : decode cX7_dayGoes 0 = .ok (.aload_n 0, 1) := dk_42 (dk_at dksX7_dayGoes_0 0 rfl rfl)
theorem dX7_dayGoes_1 : decode cX7_dayGoes 1 = .ok (.getfield 515, 3) := dk_180 2 3 (dk_at dksX7_dayGoes_0 1 rfl rfl)
theorem dX7_dayGoes_4 : decode cX7_dayGoes 4 = .ok (.iconst (-1), 1) := dk_2 (dk_at dksX7_dayGoes_0 4 rfl rfl)
theorem dX7_dayGoes_5 : decode cX7_dayGoes 5 = .ok (.if_icmp .ne 20, 3) := dk_160 0 20 (dk_at dksX7_dayGoes_0 5 rfl rfl)
theorem dX7_dayGoes_8 : decode cX7_dayGoes 8 = .ok (.aload_n 0, 1) := dk_42 (dk_at dksX7_dayGoes_0 8 rfl rfl)
theorem dX7_dayGoes_9 : decode cX7_dayGoes 9 = .ok (.getfield 154, 3) := dk_180 0 154 (dk_at dksX7_dayGoes_0 9 rfl rfl)
theorem dX7_dayGoes_12 : decode cX7_dayGoes 12 = .ok (.iconst 1, 1) := dk_4 (dk_at dksX7_dayGoes_0 12 rfl rfl)
theorem dX7_dayGoes_13 : decode cX7_dayGoes 13 = .ok (.iconst 1, 1) := dk_4 (dk_at dksX7_dayGoes_0 13 rfl rfl)
theorem dX7_dayGoes_14 : decode cX7_dayGoes 14 = .ok (.aload_n 0, 1) := dk_42 (dk_at dksX7_dayGoes_0 14 rfl rfl)
theorem dX7_dayGoes_15 : decode cX7_dayGoes 15 = .ok (.getfield 154, 3) := dk_180 0 154 (dk_at dksX7_dayGoes_0 15 rfl rfl)
theorem dX7_dayGoes_18 : decode cX7_dayGoes 18 = .ok (.iconst 1, 1) := dk_4 (dk_at dksX7_dayGoes_0 18 rfl rfl)
theorem dX7_dayGoes_19 : decode cX7_dayGoes 19 = .ok (.iaload, 1) := dk_46 (dk_at dksX7_dayGoes_0 19 rfl rfl)
theorem dX7_dayGoes_20 : decode cX7_dayGoes 20 = .ok (.isub, 1) := dk_100 (dk_at dksX7_dayGoes_0 20 rfl rfl)
theorem dX7_dayGoes_21 : decode cX7_dayGoes 21 = .ok (.iastore, 1) := dk_79 (dk_at dksX7_dayGoes_0 21 rfl rfl)
theorem dX7_dayGoes_22 : decode cX7_dayGoes 22 = .ok (.goto 7, 3) := dk_167 0 7 (dk_at dksX7_dayGoes_1 0 rfl rfl)
theorem dX7_dayGoes_25 : decode cX7_dayGoes 25 = .ok (.aload_n 0, 1) := dk_42 (dk_at dksX7_dayGoes_1 3 rfl rfl)
theorem dX7_dayGoes_26 : decode cX7_dayGoes 26 = .ok (.invokevirtual 566, 3) := dk_182 2 54 (dk_at dksX7_dayGoes_1 4 rfl rfl)
theorem dX7_dayGoes_29 : decode cX7_dayGoes 29 = .ok (.iconst 0, 1) := dk_3 (dk_at dksX7_dayGoes_1 7 rfl rfl)
theorem dX7_dayGoes_30 : decode cX7_dayGoes 30 = .ok (.istore_n 1, 1) := dk_60 (dk_at dksX7_dayGoes_1 8 rfl rfl)
theorem dX7_dayGoes_31 : decode cX7_dayGoes 31 = .ok (.iload_n 1, 1) := dk_27 (dk_at dksX7_dayGoes_1 9 rfl rfl)
theorem dX7_dayGoes_32 : decode cX7_dayGoes 32 = .ok (.aload_n 0, 1) := dk_42 (dk_at dksX7_dayGoes_1 10 rfl rfl)
theorem dX7_dayGoes_33 : decode cX7_dayGoes 33 = .ok (.invokevirtual 436, 3) := dk_182 1 180 (dk_at dksX7_dayGoes_1 11 rfl rfl)
theorem dX7_dayGoes_36 : decode cX7_dayGoes 36 = .ok (.if_icmp .ge 62, 3) := dk_162 0 62 (dk_at dksX7_dayGoes_1 14 rfl rfl)
theorem dX7_dayGoes_39 : decode cX7_dayGoes 39 = .ok (.aload_n 0, 1) := dk_42 (dk_at dksX7_dayGoes_1 17 rfl rfl)
theorem dX7_dayGoes_40 : decode cX7_dayGoes 40 = .ok (.getfield 154, 3) := dk_180 0 154 (dk_at dksX7_dayGoes_1 18 rfl rfl)
theorem dX7_dayGoes_43 : decode cX7_dayGoes 43 = .ok (.bipush 18, 2) := dk_16 18 (dk_at dksX7_dayGoes_1 21 rfl rfl)
theorem dX7_dayGoes_45 : decode cX7_dayGoes 45 = .ok (.iload_n 1, 1) := dk_27 (dk_at dksX7_dayGoes_1 23 rfl rfl)
theorem dX7_dayGoes_46 : decode cX7_dayGoes 46 = .ok (.iadd, 1) := dk_96 (dk_at dksX7_dayGoes_2 0 rfl rfl)
theorem dX7_dayGoes_47 : decode cX7_dayGoes 47 = .ok (.aload_n 0, 1) := dk_42 (dk_at dksX7_dayGoes_2 1 rfl rfl)
theorem dX7_dayGoes_48 : decode cX7_dayGoes 48 = .ok (.getfield 154, 3) := dk_180 0 154 (dk_at dksX7_dayGoes_2 2 rfl rfl)
theorem dX7_dayGoes_51 : decode cX7_dayGoes 51 = .ok (.bipush 18, 2) := dk_16 18 (dk_at dksX7_dayGoes_2 5 rfl rfl)
theorem dX7_dayGoes_53 : decode cX7_dayGoes 53 = .ok (.iload_n 1, 1) := dk_27 (dk_at dksX7_dayGoes_2 7 rfl rfl)
theorem dX7_dayGoes_54 : decode cX7_dayGoes 54 = .ok (.iadd, 1) := dk_96 (dk_at dksX7_dayGoes_2 8 rfl rfl)
theorem dX7_dayGoes_55 : decode cX7_dayGoes 55 = .ok (.iaload, 1) := dk_46 (dk_at dksX7_dayGoes_2 9 rfl rfl)
theorem dX7_dayGoes_56 : decode cX7_dayGoes 56 = .ok (.aload_n 0, 1) := dk_42 (dk_at dksX7_dayGoes_2 10 rfl rfl)
theorem dX7_dayGoes_57 : decode cX7_dayGoes 57 = .ok (.getfield 142, 3) := dk_180 0 142 (dk_at dksX7_dayGoes_2 11 rfl rfl)
theorem dX7_dayGoes_60 : decode cX7_dayGoes 60 = .ok (.iconst 2, 1) := dk_5 (dk_at dksX7_dayGoes_2 14 rfl rfl)
theorem dX7_dayGoes_61 : decode cX7_dayGoes 61 = .ok (.iaload, 1) := dk_46 (dk_at dksX7_dayGoes_2 15 rfl rfl)
theorem dX7_dayGoes_62 : decode cX7_dayGoes 62 = .ok (.iadd, 1) := dk_96 (dk_at dksX7_dayGoes_2 16 rfl rfl)
theorem dX7_dayGoes_63 : decode cX7_dayGoes 63 = .ok (.sipush 999, 3) := dk_17 3 231 (dk_at dksX7_dayGoes_2 17 rfl rfl)
theorem dX7_dayGoes_66 : decode cX7_dayGoes 66 = .ok (.if_icmp .le 9, 3) := dk_164 0 9 (dk_at dksX7_dayGoes_2 20 rfl rfl)
theorem dX7_dayGoes_69 : decode cX7_dayGoes 69 = .ok (.sipush 999, 3) := dk_17 3 231 (dk_at dksX7_dayGoes_3 0 rfl rfl)
theorem dX7_dayGoes_72 : decode cX7_dayGoes 72 = .ok (.goto 19, 3) := dk_167 0 19 (dk_at dksX7_dayGoes_3 3 rfl rfl)
theorem dX7_dayGoes_75 : decode cX7_dayGoes 75 = .ok (.aload_n 0, 1) := dk_42 (dk_at dksX7_dayGoes_3 6 rfl rfl)
theorem dX7_dayGoes_76 : decode cX7_dayGoes 76 = .ok (.getfield 154, 3) := dk_180 0 154 (dk_at dksX7_dayGoes_3 7 rfl rfl)
theorem dX7_dayGoes_79 : decode cX7_dayGoes 79 = .ok (.bipush 18, 2) := dk_16 18 (dk_at dksX7_dayGoes_3 10 rfl rfl)
theorem dX7_dayGoes_81 : decode cX7_dayGoes 81 = .ok (.iload_n 1, 1) := dk_27 (dk_at dksX7_dayGoes_3 12 rfl rfl)
theorem dX7_dayGoes_82 : decode cX7_dayGoes 82 = .ok (.iadd, 1) := dk_96 (dk_at dksX7_dayGoes_3 13 rfl rfl)
theorem dX7_dayGoes_83 : decode cX7_dayGoes 83 = .ok (.iaload, 1) := dk_46 (dk_at dksX7_dayGoes_3 14 rfl rfl)
theorem dX7_dayGoes_84 : decode cX7_dayGoes 84 = .ok (.aload_n 0, 1) := dk_42 (dk_at dksX7_dayGoes_3 15 rfl rfl)
theorem dX7_dayGoes_85 : decode cX7_dayGoes 85 = .ok (.getfield 142, 3) := dk_180 0 142 (dk_at dksX7_dayGoes_3 16 rfl rfl)
theorem dX7_dayGoes_88 : decode cX7_dayGoes 88 = .ok (.iconst 2, 1) := dk_5 (dk_at dksX7_dayGoes_3 19 rfl rfl)
theorem dX7_dayGoes_89 : decode cX7_dayGoes 89 = .ok (.iaload, 1) := dk_46 (dk_at dksX7_dayGoes_3 20 rfl rfl)
theorem dX7_dayGoes_90 : decode cX7_dayGoes 90 = .ok (.iadd, 1) := dk_96 (dk_at dksX7_dayGoes_3 21 rfl rfl)
theorem dX7_dayGoes_91 : decode cX7_dayGoes 91 = .ok (.iastore, 1) := dk_79 (dk_at dksX7_dayGoes_3 22 rfl rfl)
theorem dX7_dayGoes_92 : decode cX7_dayGoes 92 = .ok (.iinc 1 1, 3) := dk_132 1 1 (dk_at dksX7_dayGoes_4 0 rfl rfl)
theorem dX7_dayGoes_95 : decode cX7_dayGoes 95 = .ok (.goto (-64), 3) := dk_167 255 192 (dk_at dksX7_dayGoes_4 3 rfl rfl)
theorem dX7_dayGoes_98 : decode cX7_dayGoes 98 = .ok (.aload_n 0, 1) := dk_42 (dk_at dksX7_dayGoes_4 6 rfl rfl)
theorem dX7_dayGoes_99 : decode cX7_dayGoes 99 = .ok (.getfield 154, 3) := dk_180 0 154 (dk_at dksX7_dayGoes_4 7 rfl rfl)
theorem dX7_dayGoes_102 : decode cX7_dayGoes 102 = .ok (.iconst 0, 1) := dk_3 (dk_at dksX7_dayGoes_4 10 rfl rfl)
theorem dX7_dayGoes_103 : decode cX7_dayGoes 103 = .ok (.dup2, 1) := dk_92 (dk_at dksX7_dayGoes_4 11 rfl rfl)
theorem dX7_dayGoes_104 : decode cX7_dayGoes 104 = .ok (.iaload, 1) := dk_46 (dk_at dksX7_dayGoes_4 12 rfl rfl)
theorem dX7_dayGoes_105 : decode cX7_dayGoes 105 = .ok (.iconst 1, 1) := dk_4 (dk_at dksX7_dayGoes_4 13 rfl rfl)
theorem dX7_dayGoes_106 : decode cX7_dayGoes 106 = .ok (.iadd, 1) := dk_96 (dk_at dksX7_dayGoes_4 14 rfl rfl)
theorem dX7_dayGoes_107 : decode cX7_dayGoes 107 = .ok (.iastore, 1) := dk_79 (dk_at dksX7_dayGoes_4 15 rfl rfl)
theorem dX7_dayGoes_108 : decode cX7_dayGoes 108 = .ok (.return_, 1) := dk_177 (dk_at dksX7_dayGoes_4 16 rfl rfl)
abbrev cX7_playsChosen : ByteArray := prog_25_method_68_code
def yX7_playsChosen : MethodName := ⟨RX7, "playsChosen", "()V"⟩
def dkwX7_playsChosen_8 : List UInt8 := [100, 79, 132, 4, 1, 167, 255, 167, 42, 182, 2, 51, 177]
abbrev dktX7_playsChosen_8 : List UInt8 := dkwX7_playsChosen_8 ++ []
def dkwX7_playsChosen_7 : List UInt8 := [96, 46, 133, 148, 158, 0, 7, 3, 167, 0, 17, 42, 180, 0, 154, 16, 18, 21, 4, 96, 46, 22, 5, 136]
abbrev dktX7_playsChosen_7 : List UInt8 := dkwX7_playsChosen_7 ++ dktX7_playsChosen_8
def dkwX7_playsChosen_6 : List UInt8 := [182, 2, 47, 55, 5, 42, 180, 0, 154, 16, 18, 21, 4, 96, 22, 5, 42, 180, 0, 154, 16, 18, 21, 4]
abbrev dktX7_playsChosen_6 : List UInt8 := dkwX7_playsChosen_6 ++ dktX7_playsChosen_7
def dkwX7_playsChosen_5 : List UInt8 := [16, 18, 6, 21, 4, 104, 96, 46, 42, 180, 0, 139, 16, 19, 6, 21, 4, 104, 96, 46, 27, 28]
abbrev dktX7_playsChosen_5 : List UInt8 := dkwX7_playsChosen_5 ++ dktX7_playsChosen_6
def dkwX7_playsChosen_4 : List UInt8 := [167, 0, 4, 9, 181, 2, 44, 3, 54, 4, 21, 4, 42, 182, 1, 180, 162, 0, 86, 42, 42, 180, 0, 139]
abbrev dktX7_playsChosen_4 : List UInt8 := dkwX7_playsChosen_4 ++ dktX7_playsChosen_5
def dkwX7_playsChosen_3 : List UInt8 := [42, 180, 2, 12, 182, 1, 240, 42, 42, 42, 180, 0, 154, 4, 46, 182, 2, 41, 153, 0, 7, 10]
abbrev dktX7_playsChosen_3 : List UInt8 := dkwX7_playsChosen_3 ++ dktX7_playsChosen_4
def dkwX7_playsChosen_2 : List UInt8 := [29, 2, 160, 0, 7, 9, 167, 0, 9, 42, 29, 182, 1, 234, 133, 181, 2, 15, 42, 7, 42, 180, 2, 9]
abbrev dktX7_playsChosen_2 : List UInt8 := dkwX7_playsChosen_2 ++ dktX7_playsChosen_3
def dkwX7_playsChosen_1 : List UInt8 := [42, 27, 28, 182, 1, 199, 62, 42, 29, 2, 160, 0, 9, 17, 0, 255, 167, 0, 4, 29, 181, 2, 38, 42]
abbrev dktX7_playsChosen_1 : List UInt8 := dkwX7_playsChosen_1 ++ dktX7_playsChosen_2
def dkwX7_playsChosen_0 : List UInt8 := [42, 180, 2, 12, 42, 180, 0, 127, 7, 46, 112, 60, 42, 180, 2, 12, 42, 180, 0, 127, 7, 46, 108, 61]
abbrev dktX7_playsChosen_0 : List UInt8 := dkwX7_playsChosen_0 ++ dktX7_playsChosen_1
theorem dksX7_playsChosen_0 : cX7_playsChosen.data.toList.drop 0 = dktX7_playsChosen_0 := by decide +kernel
theorem dksX7_playsChosen_1 : cX7_playsChosen.data.toList.drop 24 = dktX7_playsChosen_1 := dk_seg dksX7_playsChosen_0 24 rfl rfl
theorem dksX7_playsChosen_2 : cX7_playsChosen.data.toList.drop 48 = dktX7_playsChosen_2 := dk_seg dksX7_playsChosen_1 24 rfl rfl
theorem dksX7_playsChosen_3 : cX7_playsChosen.data.toList.drop 72 = dktX7_playsChosen_3 := dk_seg dksX7_playsChosen_2 24 rfl rfl
theorem dksX7_playsChosen_4 : cX7_playsChosen.data.toList.drop 94 = dktX7_playsChosen_4 := dk_seg dksX7_playsChosen_3 22 rfl rfl
theorem dksX7_playsChosen_5 : cX7_playsChosen.data.toList.drop 118 = dktX7_playsChosen_5 := dk_seg dksX7_playsChosen_4 24 rfl rfl
theorem dksX7_playsChosen_6 : cX7_playsChosen.data.toList.drop 140 = dktX7_playsChosen_6 := dk_seg dksX7_playsChosen_5 22 rfl rfl
theorem dksX7_playsChosen_7 : cX7_playsChosen.data.toList.drop 164 = dktX7_playsChosen_7 := dk_seg dksX7_playsChosen_6 24 rfl rfl
theorem dksX7_playsChosen_8 : cX7_playsChosen.data.toList.drop 188 = dktX7_playsChosen_8 := dk_seg dksX7_playsChosen_7 24 rfl rfl
theorem dX7_playsChosen_0 : decode cX7_playsChosen 0 = .ok (.aload_n 0, 1) := dk_42 (dk_at dksX7_playsChosen_0 0 rfl rfl)
theorem dX7_playsChosen_1 : decode cX7_playsChosen 1 = .ok (.getfield 524, 3) := dk_180 2 12 (dk_at dksX7_playsChosen_0 1 rfl rfl)
theorem dX7_playsChosen_4 : decode cX7_playsChosen 4 = .ok (.aload_n 0, 1) := dk_42 (dk_at dksX7_playsChosen_0 4 rfl rfl)
theorem dX7_playsChosen_5 : decode cX7_playsChosen 5 = .ok (.getfield 127, 3) := dk_180 0 127 (dk_at dksX7_playsChosen_0 5 rfl rfl)
theorem dX7_playsChosen_8 : decode cX7_playsChosen 8 = .ok (.iconst 4, 1) := dk_7 (dk_at dksX7_playsChosen_0 8 rfl rfl)
theorem dX7_playsChosen_9 : decode cX7_playsChosen 9 = .ok (.iaload, 1) := dk_46 (dk_at dksX7_playsChosen_0 9 rfl rfl)
theorem dX7_playsChosen_10 : decode cX7_playsChosen 10 = .ok (.irem, 1) := dk_112 (dk_at dksX7_playsChosen_0 10 rfl rfl)
theorem dX7_playsChosen_11 : decode cX7_playsChosen 11 = .ok (.istore_n 1, 1) := dk_60 (dk_at dksX7_playsChosen_0 11 rfl rfl)
theorem dX7_playsChosen_12 : decode cX7_playsChosen 12 = .ok (.aload_n 0, 1) := dk_42 (dk_at dksX7_playsChosen_0 12 rfl rfl)
theorem dX7_playsChosen_13 : decode cX7_playsChosen 13 = .ok (.getfield 524, 3) := dk_180 2 12 (dk_at dksX7_playsChosen_0 13 rfl rfl)
theorem dX7_playsChosen_16 : decode cX7_playsChosen 16 = .ok (.aload_n 0, 1) := dk_42 (dk_at dksX7_playsChosen_0 16 rfl rfl)
theorem dX7_playsChosen_17 : decode cX7_playsChosen 17 = .ok (.getfield 127, 3) := dk_180 0 127 (dk_at dksX7_playsChosen_0 17 rfl rfl)
theorem dX7_playsChosen_20 : decode cX7_playsChosen 20 = .ok (.iconst 4, 1) := dk_7 (dk_at dksX7_playsChosen_0 20 rfl rfl)
theorem dX7_playsChosen_21 : decode cX7_playsChosen 21 = .ok (.iaload, 1) := dk_46 (dk_at dksX7_playsChosen_0 21 rfl rfl)
theorem dX7_playsChosen_22 : decode cX7_playsChosen 22 = .ok (.idiv, 1) := dk_108 (dk_at dksX7_playsChosen_0 22 rfl rfl)
theorem dX7_playsChosen_23 : decode cX7_playsChosen 23 = .ok (.istore_n 2, 1) := dk_61 (dk_at dksX7_playsChosen_0 23 rfl rfl)
theorem dX7_playsChosen_24 : decode cX7_playsChosen 24 = .ok (.aload_n 0, 1) := dk_42 (dk_at dksX7_playsChosen_1 0 rfl rfl)
theorem dX7_playsChosen_25 : decode cX7_playsChosen 25 = .ok (.iload_n 1, 1) := dk_27 (dk_at dksX7_playsChosen_1 1 rfl rfl)
theorem dX7_playsChosen_26 : decode cX7_playsChosen 26 = .ok (.iload_n 2, 1) := dk_28 (dk_at dksX7_playsChosen_1 2 rfl rfl)
theorem dX7_playsChosen_27 : decode cX7_playsChosen 27 = .ok (.invokevirtual 455, 3) := dk_182 1 199 (dk_at dksX7_playsChosen_1 3 rfl rfl)
theorem dX7_playsChosen_30 : decode cX7_playsChosen 30 = .ok (.istore_n 3, 1) := dk_62 (dk_at dksX7_playsChosen_1 6 rfl rfl)
theorem dX7_playsChosen_31 : decode cX7_playsChosen 31 = .ok (.aload_n 0, 1) := dk_42 (dk_at dksX7_playsChosen_1 7 rfl rfl)
theorem dX7_playsChosen_32 : decode cX7_playsChosen 32 = .ok (.iload_n 3, 1) := dk_29 (dk_at dksX7_playsChosen_1 8 rfl rfl)
theorem dX7_playsChosen_33 : decode cX7_playsChosen 33 = .ok (.iconst (-1), 1) := dk_2 (dk_at dksX7_playsChosen_1 9 rfl rfl)
theorem dX7_playsChosen_34 : decode cX7_playsChosen 34 = .ok (.if_icmp .ne 9, 3) := dk_160 0 9 (dk_at dksX7_playsChosen_1 10 rfl rfl)
theorem dX7_playsChosen_37 : decode cX7_playsChosen 37 = .ok (.sipush 255, 3) := dk_17 0 255 (dk_at dksX7_playsChosen_1 13 rfl rfl)
theorem dX7_playsChosen_40 : decode cX7_playsChosen 40 = .ok (.goto 4, 3) := dk_167 0 4 (dk_at dksX7_playsChosen_1 16 rfl rfl)
theorem dX7_playsChosen_43 : decode cX7_playsChosen 43 = .ok (.iload_n 3, 1) := dk_29 (dk_at dksX7_playsChosen_1 19 rfl rfl)
theorem dX7_playsChosen_44 : decode cX7_playsChosen 44 = .ok (.putfield 550, 3) := dk_181 2 38 (dk_at dksX7_playsChosen_1 20 rfl rfl)
theorem dX7_playsChosen_47 : decode cX7_playsChosen 47 = .ok (.aload_n 0, 1) := dk_42 (dk_at dksX7_playsChosen_1 23 rfl rfl)
theorem dX7_playsChosen_48 : decode cX7_playsChosen 48 = .ok (.iload_n 3, 1) := dk_29 (dk_at dksX7_playsChosen_2 0 rfl rfl)
theorem dX7_playsChosen_49 : decode cX7_playsChosen 49 = .ok (.iconst (-1), 1) := dk_2 (dk_at dksX7_playsChosen_2 1 rfl rfl)
theorem dX7_playsChosen_50 : decode cX7_playsChosen 50 = .ok (.if_icmp .ne 7, 3) := dk_160 0 7 (dk_at dksX7_playsChosen_2 2 rfl rfl)
theorem dX7_playsChosen_53 : decode cX7_playsChosen 53 = .ok (.lconst 0, 1) := dk_9 (dk_at dksX7_playsChosen_2 5 rfl rfl)
theorem dX7_playsChosen_54 : decode cX7_playsChosen 54 = .ok (.goto 9, 3) := dk_167 0 9 (dk_at dksX7_playsChosen_2 6 rfl rfl)
theorem dX7_playsChosen_57 : decode cX7_playsChosen 57 = .ok (.aload_n 0, 1) := dk_42 (dk_at dksX7_playsChosen_2 9 rfl rfl)
theorem dX7_playsChosen_58 : decode cX7_playsChosen 58 = .ok (.iload_n 3, 1) := dk_29 (dk_at dksX7_playsChosen_2 10 rfl rfl)
theorem dX7_playsChosen_59 : decode cX7_playsChosen 59 = .ok (.invokevirtual 490, 3) := dk_182 1 234 (dk_at dksX7_playsChosen_2 11 rfl rfl)
theorem dX7_playsChosen_62 : decode cX7_playsChosen 62 = .ok (.i2l, 1) := dk_133 (dk_at dksX7_playsChosen_2 14 rfl rfl)
theorem dX7_playsChosen_63 : decode cX7_playsChosen 63 = .ok (.putfield 527, 3) := dk_181 2 15 (dk_at dksX7_playsChosen_2 15 rfl rfl)
theorem dX7_playsChosen_66 : decode cX7_playsChosen 66 = .ok (.aload_n 0, 1) := dk_42 (dk_at dksX7_playsChosen_2 18 rfl rfl)
theorem dX7_playsChosen_67 : decode cX7_playsChosen 67 = .ok (.iconst 4, 1) := dk_7 (dk_at dksX7_playsChosen_2 19 rfl rfl)
theorem dX7_playsChosen_68 : decode cX7_playsChosen 68 = .ok (.aload_n 0, 1) := dk_42 (dk_at dksX7_playsChosen_2 20 rfl rfl)
theorem dX7_playsChosen_69 : decode cX7_playsChosen 69 = .ok (.getfield 521, 3) := dk_180 2 9 (dk_at dksX7_playsChosen_2 21 rfl rfl)
theorem dX7_playsChosen_72 : decode cX7_playsChosen 72 = .ok (.aload_n 0, 1) := dk_42 (dk_at dksX7_playsChosen_3 0 rfl rfl)
theorem dX7_playsChosen_73 : decode cX7_playsChosen 73 = .ok (.getfield 524, 3) := dk_180 2 12 (dk_at dksX7_playsChosen_3 1 rfl rfl)
theorem dX7_playsChosen_76 : decode cX7_playsChosen 76 = .ok (.invokevirtual 496, 3) := dk_182 1 240 (dk_at dksX7_playsChosen_3 4 rfl rfl)
theorem dX7_playsChosen_79 : decode cX7_playsChosen 79 = .ok (.aload_n 0, 1) := dk_42 (dk_at dksX7_playsChosen_3 7 rfl rfl)
theorem dX7_playsChosen_80 : decode cX7_playsChosen 80 = .ok (.aload_n 0, 1) := dk_42 (dk_at dksX7_playsChosen_3 8 rfl rfl)
theorem dX7_playsChosen_81 : decode cX7_playsChosen 81 = .ok (.aload_n 0, 1) := dk_42 (dk_at dksX7_playsChosen_3 9 rfl rfl)
theorem dX7_playsChosen_82 : decode cX7_playsChosen 82 = .ok (.getfield 154, 3) := dk_180 0 154 (dk_at dksX7_playsChosen_3 10 rfl rfl)
theorem dX7_playsChosen_85 : decode cX7_playsChosen 85 = .ok (.iconst 1, 1) := dk_4 (dk_at dksX7_playsChosen_3 13 rfl rfl)
theorem dX7_playsChosen_86 : decode cX7_playsChosen 86 = .ok (.iaload, 1) := dk_46 (dk_at dksX7_playsChosen_3 14 rfl rfl)
theorem dX7_playsChosen_87 : decode cX7_playsChosen 87 = .ok (.invokevirtual 553, 3) := dk_182 2 41 (dk_at dksX7_playsChosen_3 15 rfl rfl)
theorem dX7_playsChosen_90 : decode cX7_playsChosen 90 = .ok (.ifCond .eq 7, 3) := dk_153 0 7 (dk_at dksX7_playsChosen_3 18 rfl rfl)
theorem dX7_playsChosen_93 : decode cX7_playsChosen 93 = .ok (.lconst 1, 1) := dk_10 (dk_at dksX7_playsChosen_3 21 rfl rfl)
theorem dX7_playsChosen_94 : decode cX7_playsChosen 94 = .ok (.goto 4, 3) := dk_167 0 4 (dk_at dksX7_playsChosen_4 0 rfl rfl)
theorem dX7_playsChosen_97 : decode cX7_playsChosen 97 = .ok (.lconst 0, 1) := dk_9 (dk_at dksX7_playsChosen_4 3 rfl rfl)
theorem dX7_playsChosen_98 : decode cX7_playsChosen 98 = .ok (.putfield 556, 3) := dk_181 2 44 (dk_at dksX7_playsChosen_4 4 rfl rfl)
theorem dX7_playsChosen_101 : decode cX7_playsChosen 101 = .ok (.iconst 0, 1) := dk_3 (dk_at dksX7_playsChosen_4 7 rfl rfl)
theorem dX7_playsChosen_102 : decode cX7_playsChosen 102 = .ok (.istore 4, 2) := dk_54 4 (dk_at dksX7_playsChosen_4 8 rfl rfl)
theorem dX7_playsChosen_104 : decode cX7_playsChosen 104 = .ok (.iload 4, 2) := dk_21 4 (dk_at dksX7_playsChosen_4 10 rfl rfl)
theorem dX7_playsChosen_106 : decode cX7_playsChosen 106 = .ok (.aload_n 0, 1) := dk_42 (dk_at dksX7_playsChosen_4 12 rfl rfl)
theorem dX7_playsChosen_107 : decode cX7_playsChosen 107 = .ok (.invokevirtual 436, 3) := dk_182 1 180 (dk_at dksX7_playsChosen_4 13 rfl rfl)
theorem dX7_playsChosen_110 : decode cX7_playsChosen 110 = .ok (.if_icmp .ge 86, 3) := dk_162 0 86 (dk_at dksX7_playsChosen_4 16 rfl rfl)
theorem dX7_playsChosen_113 : decode cX7_playsChosen 113 = .ok (.aload_n 0, 1) := dk_42 (dk_at dksX7_playsChosen_4 19 rfl rfl)
theorem dX7_playsChosen_114 : decode cX7_playsChosen 114 = .ok (.aload_n 0, 1) := dk_42 (dk_at dksX7_playsChosen_4 20 rfl rfl)
theorem dX7_playsChosen_115 : decode cX7_playsChosen 115 = .ok (.getfield 139, 3) := dk_180 0 139 (dk_at dksX7_playsChosen_4 21 rfl rfl)
theorem dX7_playsChosen_118 : decode cX7_playsChosen 118 = .ok (.bipush 18, 2) := dk_16 18 (dk_at dksX7_playsChosen_5 0 rfl rfl)
theorem dX7_playsChosen_120 : decode cX7_playsChosen 120 = .ok (.iconst 3, 1) := dk_6 (dk_at dksX7_playsChosen_5 2 rfl rfl)
theorem dX7_playsChosen_121 : decode cX7_playsChosen 121 = .ok (.iload 4, 2) := dk_21 4 (dk_at dksX7_playsChosen_5 3 rfl rfl)
theorem dX7_playsChosen_123 : decode cX7_playsChosen 123 = .ok (.imul, 1) := dk_104 (dk_at dksX7_playsChosen_5 5 rfl rfl)
theorem dX7_playsChosen_124 : decode cX7_playsChosen 124 = .ok (.iadd, 1) := dk_96 (dk_at dksX7_playsChosen_5 6 rfl rfl)
theorem dX7_playsChosen_125 : decode cX7_playsChosen 125 = .ok (.iaload, 1) := dk_46 (dk_at dksX7_playsChosen_5 7 rfl rfl)
theorem dX7_playsChosen_126 : decode cX7_playsChosen 126 = .ok (.aload_n 0, 1) := dk_42 (dk_at dksX7_playsChosen_5 8 rfl rfl)
theorem dX7_playsChosen_127 : decode cX7_playsChosen 127 = .ok (.getfield 139, 3) := dk_180 0 139 (dk_at dksX7_playsChosen_5 9 rfl rfl)
theorem dX7_playsChosen_130 : decode cX7_playsChosen 130 = .ok (.bipush 19, 2) := dk_16 19 (dk_at dksX7_playsChosen_5 12 rfl rfl)
theorem dX7_playsChosen_132 : decode cX7_playsChosen 132 = .ok (.iconst 3, 1) := dk_6 (dk_at dksX7_playsChosen_5 14 rfl rfl)
theorem dX7_playsChosen_133 : decode cX7_playsChosen 133 = .ok (.iload 4, 2) := dk_21 4 (dk_at dksX7_playsChosen_5 15 rfl rfl)
theorem dX7_playsChosen_135 : decode cX7_playsChosen 135 = .ok (.imul, 1) := dk_104 (dk_at dksX7_playsChosen_5 17 rfl rfl)
theorem dX7_playsChosen_136 : decode cX7_playsChosen 136 = .ok (.iadd, 1) := dk_96 (dk_at dksX7_playsChosen_5 18 rfl rfl)
theorem dX7_playsChosen_137 : decode cX7_playsChosen 137 = .ok (.iaload, 1) := dk_46 (dk_at dksX7_playsChosen_5 19 rfl rfl)
theorem dX7_playsChosen_138 : decode cX7_playsChosen 138 = .ok (.iload_n 1, 1) := dk_27 (dk_at dksX7_playsChosen_5 20 rfl rfl)
theorem dX7_playsChosen_139 : decode cX7_playsChosen 139 = .ok (.iload_n 2, 1) := dk_28 (dk_at dksX7_playsChosen_5 21 rfl rfl)
theorem dX7_playsChosen_140 : decode cX7_playsChosen 140 = .ok (.invokevirtual 559, 3) := dk_182 2 47 (dk_at dksX7_playsChosen_6 0 rfl rfl)
theorem dX7_playsChosen_143 : decode cX7_playsChosen 143 = .ok (.lstore 5, 2) := dk_55 5 (dk_at dksX7_playsChosen_6 3 rfl rfl)
theorem dX7_playsChosen_145 : decode cX7_playsChosen 145 = .ok (.aload_n 0, 1) := dk_42 (dk_at dksX7_playsChosen_6 5 rfl rfl)
theorem dX7_playsChosen_146 : decode cX7_playsChosen 146 = .ok (.getfield 154, 3) := dk_180 0 154 (dk_at dksX7_playsChosen_6 6 rfl rfl)
theorem dX7_playsChosen_149 : decode cX7_playsChosen 149 = .ok (.bipush 18, 2) := dk_16 18 (dk_at dksX7_playsChosen_6 9 rfl rfl)
theorem dX7_playsChosen_151 : decode cX7_playsChosen 151 = .ok (.iload 4, 2) := dk_21 4 (dk_at dksX7_playsChosen_6 11 rfl rfl)
theorem dX7_playsChosen_153 : decode cX7_playsChosen 153 = .ok (.iadd, 1) := dk_96 (dk_at dksX7_playsChosen_6 13 rfl rfl)
theorem dX7_playsChosen_154 : decode cX7_playsChosen 154 = .ok (.lload 5, 2) := dk_22 5 (dk_at dksX7_playsChosen_6 14 rfl rfl)
theorem dX7_playsChosen_156 : decode cX7_playsChosen 156 = .ok (.aload_n 0, 1) := dk_42 (dk_at dksX7_playsChosen_6 16 rfl rfl)
theorem dX7_playsChosen_157 : decode cX7_playsChosen 157 = .ok (.getfield 154, 3) := dk_180 0 154 (dk_at dksX7_playsChosen_6 17 rfl rfl)
theorem dX7_playsChosen_160 : decode cX7_playsChosen 160 = .ok (.bipush 18, 2) := dk_16 18 (dk_at dksX7_playsChosen_6 20 rfl rfl)
theorem dX7_playsChosen_162 : decode cX7_playsChosen 162 = .ok (.iload 4, 2) := dk_21 4 (dk_at dksX7_playsChosen_6 22 rfl rfl)
theorem dX7_playsChosen_164 : decode cX7_playsChosen 164 = .ok (.iadd, 1) := dk_96 (dk_at dksX7_playsChosen_7 0 rfl rfl)
theorem dX7_playsChosen_165 : decode cX7_playsChosen 165 = .ok (.iaload, 1) := dk_46 (dk_at dksX7_playsChosen_7 1 rfl rfl)
theorem dX7_playsChosen_166 : decode cX7_playsChosen 166 = .ok (.i2l, 1) := dk_133 (dk_at dksX7_playsChosen_7 2 rfl rfl)
theorem dX7_playsChosen_167 : decode cX7_playsChosen 167 = .ok (.lcmp, 1) := dk_148 (dk_at dksX7_playsChosen_7 3 rfl rfl)
theorem dX7_playsChosen_168 : decode cX7_playsChosen 168 = .ok (.ifCond .le 7, 3) := dk_158 0 7 (dk_at dksX7_playsChosen_7 4 rfl rfl)
theorem dX7_playsChosen_171 : decode cX7_playsChosen 171 = .ok (.iconst 0, 1) := dk_3 (dk_at dksX7_playsChosen_7 7 rfl rfl)
theorem dX7_playsChosen_172 : decode cX7_playsChosen 172 = .ok (.goto 17, 3) := dk_167 0 17 (dk_at dksX7_playsChosen_7 8 rfl rfl)
theorem dX7_playsChosen_175 : decode cX7_playsChosen 175 = .ok (.aload_n 0, 1) := dk_42 (dk_at dksX7_playsChosen_7 11 rfl rfl)
theorem dX7_playsChosen_176 : decode cX7_playsChosen 176 = .ok (.getfield 154, 3) := dk_180 0 154 (dk_at dksX7_playsChosen_7 12 rfl rfl)
theorem dX7_playsChosen_179 : decode cX7_playsChosen 179 = .ok (.bipush 18, 2) := dk_16 18 (dk_at dksX7_playsChosen_7 15 rfl rfl)
theorem dX7_playsChosen_181 : decode cX7_playsChosen 181 = .ok (.iload 4, 2) := dk_21 4 (dk_at dksX7_playsChosen_7 17 rfl rfl)
theorem dX7_playsChosen_183 : decode cX7_playsChosen 183 = .ok (.iadd, 1) := dk_96 (dk_at dksX7_playsChosen_7 19 rfl rfl)
theorem dX7_playsChosen_184 : decode cX7_playsChosen 184 = .ok (.iaload, 1) := dk_46 (dk_at dksX7_playsChosen_7 20 rfl rfl)
theorem dX7_playsChosen_185 : decode cX7_playsChosen 185 = .ok (.lload 5, 2) := dk_22 5 (dk_at dksX7_playsChosen_7 21 rfl rfl)
theorem dX7_playsChosen_187 : decode cX7_playsChosen 187 = .ok (.l2i, 1) := dk_136 (dk_at dksX7_playsChosen_7 23 rfl rfl)
theorem dX7_playsChosen_188 : decode cX7_playsChosen 188 = .ok (.isub, 1) := dk_100 (dk_at dksX7_playsChosen_8 0 rfl rfl)
theorem dX7_playsChosen_189 : decode cX7_playsChosen 189 = .ok (.iastore, 1) := dk_79 (dk_at dksX7_playsChosen_8 1 rfl rfl)
theorem dX7_playsChosen_190 : decode cX7_playsChosen 190 = .ok (.iinc 4 1, 3) := dk_132 4 1 (dk_at dksX7_playsChosen_8 2 rfl rfl)
theorem dX7_playsChosen_193 : decode cX7_playsChosen 193 = .ok (.goto (-89), 3) := dk_167 255 167 (dk_at dksX7_playsChosen_8 5 rfl rfl)
theorem dX7_playsChosen_196 : decode cX7_playsChosen 196 = .ok (.aload_n 0, 1) := dk_42 (dk_at dksX7_playsChosen_8 8 rfl rfl)
theorem dX7_playsChosen_197 : decode cX7_playsChosen 197 = .ok (.invokevirtual 563, 3) := dk_182 2 51 (dk_at dksX7_playsChosen_8 9 rfl rfl)
theorem dX7_playsChosen_200 : decode cX7_playsChosen 200 = .ok (.return_, 1) := dk_177 (dk_at dksX7_playsChosen_8 12 rfl rfl)
abbrev cX7_harmAt : ByteArray := prog_25_method_66_code
def yX7_harmAt : MethodName := ⟨RX7, "harmAt", "(IIII)J"⟩
def dkwX7_harmAt_6 : List UInt8 := [42, 180, 1, 13, 3, 47, 173]
abbrev dktX7_harmAt_6 : List UInt8 := dkwX7_harmAt_6 ++ []
def dkwX7_harmAt_5 : List UInt8 := [182, 2, 32, 132, 5, 1, 167, 255, 177, 42, 180, 1, 13, 3, 47, 9, 148, 156, 0, 7, 9, 167, 0, 9]
abbrev dktX7_harmAt_5 : List UInt8 := dkwX7_harmAt_5 ++ dktX7_harmAt_6
def dkwX7_harmAt_4 : List UInt8 := [161, 0, 20, 42, 42, 21, 6, 16, 40, 100, 3, 182, 2, 28, 182, 2, 24, 167, 0, 9, 42, 21, 6]
abbrev dktX7_harmAt_4 : List UInt8 := dkwX7_harmAt_4 ++ dktX7_harmAt_5
def dkwX7_harmAt_3 : List UInt8 := [17, 3, 232, 161, 0, 17, 42, 21, 6, 17, 3, 232, 100, 133, 182, 2, 24, 167, 0, 33, 21, 6, 16, 40]
abbrev dktX7_harmAt_3 : List UInt8 := dkwX7_harmAt_3 ++ dktX7_harmAt_4
def dkwX7_harmAt_2 : List UInt8 := [42, 180, 0, 148, 4, 46, 162, 0, 74, 42, 180, 0, 151, 17, 6, 64, 21, 5, 96, 46, 54, 6, 21, 6]
abbrev dktX7_harmAt_2 : List UInt8 := dkwX7_harmAt_2 ++ dktX7_harmAt_3
def dkwX7_harmAt_1 : List UInt8 := [133, 181, 2, 18, 42, 4, 181, 1, 80, 42, 3, 181, 2, 21, 42, 180, 0, 145, 4, 46, 54, 5, 21, 5]
abbrev dktX7_harmAt_1 : List UInt8 := dkwX7_harmAt_1 ++ dktX7_harmAt_2
def dkwX7_harmAt_0 : List UInt8 := [42, 180, 0, 145, 4, 46, 2, 160, 0, 8, 42, 180, 2, 15, 173, 42, 27, 28, 29, 21, 4, 184, 1, 205]
abbrev dktX7_harmAt_0 : List UInt8 := dkwX7_harmAt_0 ++ dktX7_harmAt_1
theorem dksX7_harmAt_0 : cX7_harmAt.data.toList.drop 0 = dktX7_harmAt_0 := by decide +kernel
theorem dksX7_harmAt_1 : cX7_harmAt.data.toList.drop 24 = dktX7_harmAt_1 := dk_seg dksX7_harmAt_0 24 rfl rfl
theorem dksX7_harmAt_2 : cX7_harmAt.data.toList.drop 48 = dktX7_harmAt_2 := dk_seg dksX7_harmAt_1 24 rfl rfl
theorem dksX7_harmAt_3 : cX7_harmAt.data.toList.drop 72 = dktX7_harmAt_3 := dk_seg dksX7_harmAt_2 24 rfl rfl
theorem dksX7_harmAt_4 : cX7_harmAt.data.toList.drop 96 = dktX7_harmAt_4 := dk_seg dksX7_harmAt_3 24 rfl rfl
theorem dksX7_harmAt_5 : cX7_harmAt.data.toList.drop 119 = dktX7_harmAt_5 := dk_seg dksX7_harmAt_4 23 rfl rfl
theorem dksX7_harmAt_6 : cX7_harmAt.data.toList.drop 143 = dktX7_harmAt_6 := dk_seg dksX7_harmAt_5 24 rfl rfl
theorem dX7_harmAt_0 : decode cX7_harmAt 0 = .ok (.aload_n 0, 1) := dk_42 (dk_at dksX7_harmAt_0 0 rfl rfl)
theorem dX7_harmAt_1 : decode cX7_harmAt 1 = .ok (.getfield 145, 3) := dk_180 0 145 (dk_at dksX7_harmAt_0 1 rfl rfl)
theorem dX7_harmAt_4 : decode cX7_harmAt 4 = .ok (.iconst 1, 1) := dk_4 (dk_at dksX7_harmAt_0 4 rfl rfl)
theorem dX7_harmAt_5 : decode cX7_harmAt 5 = .ok (.iaload, 1) := dk_46 (dk_at dksX7_harmAt_0 5 rfl rfl)
theorem dX7_harmAt_6 : decode cX7_harmAt 6 = .ok (.iconst (-1), 1) := dk_2 (dk_at dksX7_harmAt_0 6 rfl rfl)
theorem dX7_harmAt_7 : decode cX7_harmAt 7 = .ok (.if_icmp .ne 8, 3) := dk_160 0 8 (dk_at dksX7_harmAt_0 7 rfl rfl)
theorem dX7_harmAt_10 : decode cX7_harmAt 10 = .ok (.aload_n 0, 1) := dk_42 (dk_at dksX7_harmAt_0 10 rfl rfl)
theorem dX7_harmAt_11 : decode cX7_harmAt 11 = .ok (.getfield 527, 3) := dk_180 2 15 (dk_at dksX7_harmAt_0 11 rfl rfl)
theorem dX7_harmAt_14 : decode cX7_harmAt 14 = .ok (.lreturn, 1) := dk_173 (dk_at dksX7_harmAt_0 14 rfl rfl)
theorem dX7_harmAt_15 : decode cX7_harmAt 15 = .ok (.aload_n 0, 1) := dk_42 (dk_at dksX7_harmAt_0 15 rfl rfl)
theorem dX7_harmAt_16 : decode cX7_harmAt 16 = .ok (.iload_n 1, 1) := dk_27 (dk_at dksX7_harmAt_0 16 rfl rfl)
theorem dX7_harmAt_17 : decode cX7_harmAt 17 = .ok (.iload_n 2, 1) := dk_28 (dk_at dksX7_harmAt_0 17 rfl rfl)
theorem dX7_harmAt_18 : decode cX7_harmAt 18 = .ok (.iload_n 3, 1) := dk_29 (dk_at dksX7_harmAt_0 18 rfl rfl)
theorem dX7_harmAt_19 : decode cX7_harmAt 19 = .ok (.iload 4, 2) := dk_21 4 (dk_at dksX7_harmAt_0 19 rfl rfl)
theorem dX7_harmAt_21 : decode cX7_harmAt 21 = .ok (.invokestatic 461, 3) := dk_184 1 205 (dk_at dksX7_harmAt_0 21 rfl rfl)
theorem dX7_harmAt_24 : decode cX7_harmAt 24 = .ok (.i2l, 1) := dk_133 (dk_at dksX7_harmAt_1 0 rfl rfl)
theorem dX7_harmAt_25 : decode cX7_harmAt 25 = .ok (.putfield 530, 3) := dk_181 2 18 (dk_at dksX7_harmAt_1 1 rfl rfl)
theorem dX7_harmAt_28 : decode cX7_harmAt 28 = .ok (.aload_n 0, 1) := dk_42 (dk_at dksX7_harmAt_1 4 rfl rfl)
theorem dX7_harmAt_29 : decode cX7_harmAt 29 = .ok (.iconst 1, 1) := dk_4 (dk_at dksX7_harmAt_1 5 rfl rfl)
theorem dX7_harmAt_30 : decode cX7_harmAt 30 = .ok (.putfield 336, 3) := dk_181 1 80 (dk_at dksX7_harmAt_1 6 rfl rfl)
theorem dX7_harmAt_33 : decode cX7_harmAt 33 = .ok (.aload_n 0, 1) := dk_42 (dk_at dksX7_harmAt_1 9 rfl rfl)
theorem dX7_harmAt_34 : decode cX7_harmAt 34 = .ok (.iconst 0, 1) := dk_3 (dk_at dksX7_harmAt_1 10 rfl rfl)
theorem dX7_harmAt_35 : decode cX7_harmAt 35 = .ok (.putfield 533, 3) := dk_181 2 21 (dk_at dksX7_harmAt_1 11 rfl rfl)
theorem dX7_harmAt_38 : decode cX7_harmAt 38 = .ok (.aload_n 0, 1) := dk_42 (dk_at dksX7_harmAt_1 14 rfl rfl)
theorem dX7_harmAt_39 : decode cX7_harmAt 39 = .ok (.getfield 145, 3) := dk_180 0 145 (dk_at dksX7_harmAt_1 15 rfl rfl)
theorem dX7_harmAt_42 : decode cX7_harmAt 42 = .ok (.iconst 1, 1) := dk_4 (dk_at dksX7_harmAt_1 18 rfl rfl)
theorem dX7_harmAt_43 : decode cX7_harmAt 43 = .ok (.iaload, 1) := dk_46 (dk_at dksX7_harmAt_1 19 rfl rfl)
theorem dX7_harmAt_44 : decode cX7_harmAt 44 = .ok (.istore 5, 2) := dk_54 5 (dk_at dksX7_harmAt_1 20 rfl rfl)
theorem dX7_harmAt_46 : decode cX7_harmAt 46 = .ok (.iload 5, 2) := dk_21 5 (dk_at dksX7_harmAt_1 22 rfl rfl)
theorem dX7_harmAt_48 : decode cX7_harmAt 48 = .ok (.aload_n 0, 1) := dk_42 (dk_at dksX7_harmAt_2 0 rfl rfl)
theorem dX7_harmAt_49 : decode cX7_harmAt 49 = .ok (.getfield 148, 3) := dk_180 0 148 (dk_at dksX7_harmAt_2 1 rfl rfl)
theorem dX7_harmAt_52 : decode cX7_harmAt 52 = .ok (.iconst 1, 1) := dk_4 (dk_at dksX7_harmAt_2 4 rfl rfl)
theorem dX7_harmAt_53 : decode cX7_harmAt 53 = .ok (.iaload, 1) := dk_46 (dk_at dksX7_harmAt_2 5 rfl rfl)
theorem dX7_harmAt_54 : decode cX7_harmAt 54 = .ok (.if_icmp .ge 74, 3) := dk_162 0 74 (dk_at dksX7_harmAt_2 6 rfl rfl)
theorem dX7_harmAt_57 : decode cX7_harmAt 57 = .ok (.aload_n 0, 1) := dk_42 (dk_at dksX7_harmAt_2 9 rfl rfl)
theorem dX7_harmAt_58 : decode cX7_harmAt 58 = .ok (.getfield 151, 3) := dk_180 0 151 (dk_at dksX7_harmAt_2 10 rfl rfl)
theorem dX7_harmAt_61 : decode cX7_harmAt 61 = .ok (.sipush 1600, 3) := dk_17 6 64 (dk_at dksX7_harmAt_2 13 rfl rfl)
theorem dX7_harmAt_64 : decode cX7_harmAt 64 = .ok (.iload 5, 2) := dk_21 5 (dk_at dksX7_harmAt_2 16 rfl rfl)
theorem dX7_harmAt_66 : decode cX7_harmAt 66 = .ok (.iadd, 1) := dk_96 (dk_at dksX7_harmAt_2 18 rfl rfl)
theorem dX7_harmAt_67 : decode cX7_harmAt 67 = .ok (.iaload, 1) := dk_46 (dk_at dksX7_harmAt_2 19 rfl rfl)
theorem dX7_harmAt_68 : decode cX7_harmAt 68 = .ok (.istore 6, 2) := dk_54 6 (dk_at dksX7_harmAt_2 20 rfl rfl)
theorem dX7_harmAt_70 : decode cX7_harmAt 70 = .ok (.iload 6, 2) := dk_21 6 (dk_at dksX7_harmAt_2 22 rfl rfl)
theorem dX7_harmAt_72 : decode cX7_harmAt 72 = .ok (.sipush 1000, 3) := dk_17 3 232 (dk_at dksX7_harmAt_3 0 rfl rfl)
theorem dX7_harmAt_75 : decode cX7_harmAt 75 = .ok (.if_icmp .lt 17, 3) := dk_161 0 17 (dk_at dksX7_harmAt_3 3 rfl rfl)
theorem dX7_harmAt_78 : decode cX7_harmAt 78 = .ok (.aload_n 0, 1) := dk_42 (dk_at dksX7_harmAt_3 6 rfl rfl)
theorem dX7_harmAt_79 : decode cX7_harmAt 79 = .ok (.iload 6, 2) := dk_21 6 (dk_at dksX7_harmAt_3 7 rfl rfl)
theorem dX7_harmAt_81 : decode cX7_harmAt 81 = .ok (.sipush 1000, 3) := dk_17 3 232 (dk_at dksX7_harmAt_3 9 rfl rfl)
theorem dX7_harmAt_84 : decode cX7_harmAt 84 = .ok (.isub, 1) := dk_100 (dk_at dksX7_harmAt_3 12 rfl rfl)
theorem dX7_harmAt_85 : decode cX7_harmAt 85 = .ok (.i2l, 1) := dk_133 (dk_at dksX7_harmAt_3 13 rfl rfl)
theorem dX7_harmAt_86 : decode cX7_harmAt 86 = .ok (.invokevirtual 536, 3) := dk_182 2 24 (dk_at dksX7_harmAt_3 14 rfl rfl)
theorem dX7_harmAt_89 : decode cX7_harmAt 89 = .ok (.goto 33, 3) := dk_167 0 33 (dk_at dksX7_harmAt_3 17 rfl rfl)
theorem dX7_harmAt_92 : decode cX7_harmAt 92 = .ok (.iload 6, 2) := dk_21 6 (dk_at dksX7_harmAt_3 20 rfl rfl)
theorem dX7_harmAt_94 : decode cX7_harmAt 94 = .ok (.bipush 40, 2) := dk_16 40 (dk_at dksX7_harmAt_3 22 rfl rfl)
theorem dX7_harmAt_96 : decode cX7_harmAt 96 = .ok (.if_icmp .lt 20, 3) := dk_161 0 20 (dk_at dksX7_harmAt_4 0 rfl rfl)
theorem dX7_harmAt_99 : decode cX7_harmAt 99 = .ok (.aload_n 0, 1) := dk_42 (dk_at dksX7_harmAt_4 3 rfl rfl)
theorem dX7_harmAt_100 : decode cX7_harmAt 100 = .ok (.aload_n 0, 1) := dk_42 (dk_at dksX7_harmAt_4 4 rfl rfl)
theorem dX7_harmAt_101 : decode cX7_harmAt 101 = .ok (.iload 6, 2) := dk_21 6 (dk_at dksX7_harmAt_4 5 rfl rfl)
theorem dX7_harmAt_103 : decode cX7_harmAt 103 = .ok (.bipush 40, 2) := dk_16 40 (dk_at dksX7_harmAt_4 7 rfl rfl)
theorem dX7_harmAt_105 : decode cX7_harmAt 105 = .ok (.isub, 1) := dk_100 (dk_at dksX7_harmAt_4 9 rfl rfl)
theorem dX7_harmAt_106 : decode cX7_harmAt 106 = .ok (.iconst 0, 1) := dk_3 (dk_at dksX7_harmAt_4 10 rfl rfl)
theorem dX7_harmAt_107 : decode cX7_harmAt 107 = .ok (.invokevirtual 540, 3) := dk_182 2 28 (dk_at dksX7_harmAt_4 11 rfl rfl)
theorem dX7_harmAt_110 : decode cX7_harmAt 110 = .ok (.invokevirtual 536, 3) := dk_182 2 24 (dk_at dksX7_harmAt_4 14 rfl rfl)
theorem dX7_harmAt_113 : decode cX7_harmAt 113 = .ok (.goto 9, 3) := dk_167 0 9 (dk_at dksX7_harmAt_4 17 rfl rfl)
theorem dX7_harmAt_116 : decode cX7_harmAt 116 = .ok (.aload_n 0, 1) := dk_42 (dk_at dksX7_harmAt_4 20 rfl rfl)
theorem dX7_harmAt_117 : decode cX7_harmAt 117 = .ok (.iload 6, 2) := dk_21 6 (dk_at dksX7_harmAt_4 21 rfl rfl)
theorem dX7_harmAt_119 : decode cX7_harmAt 119 = .ok (.invokevirtual 544, 3) := dk_182 2 32 (dk_at dksX7_harmAt_5 0 rfl rfl)
theorem dX7_harmAt_122 : decode cX7_harmAt 122 = .ok (.iinc 5 1, 3) := dk_132 5 1 (dk_at dksX7_harmAt_5 3 rfl rfl)
theorem dX7_harmAt_125 : decode cX7_harmAt 125 = .ok (.goto (-79), 3) := dk_167 255 177 (dk_at dksX7_harmAt_5 6 rfl rfl)
theorem dX7_harmAt_128 : decode cX7_harmAt 128 = .ok (.aload_n 0, 1) := dk_42 (dk_at dksX7_harmAt_5 9 rfl rfl)
theorem dX7_harmAt_129 : decode cX7_harmAt 129 = .ok (.getfield 269, 3) := dk_180 1 13 (dk_at dksX7_harmAt_5 10 rfl rfl)
theorem dX7_harmAt_132 : decode cX7_harmAt 132 = .ok (.iconst 0, 1) := dk_3 (dk_at dksX7_harmAt_5 13 rfl rfl)
theorem dX7_harmAt_133 : decode cX7_harmAt 133 = .ok (.laload, 1) := dk_47 (dk_at dksX7_harmAt_5 14 rfl rfl)
theorem dX7_harmAt_134 : decode cX7_harmAt 134 = .ok (.lconst 0, 1) := dk_9 (dk_at dksX7_harmAt_5 15 rfl rfl)
theorem dX7_harmAt_135 : decode cX7_harmAt 135 = .ok (.lcmp, 1) := dk_148 (dk_at dksX7_harmAt_5 16 rfl rfl)
theorem dX7_harmAt_136 : decode cX7_harmAt 136 = .ok (.ifCond .ge 7, 3) := dk_156 0 7 (dk_at dksX7_harmAt_5 17 rfl rfl)
theorem dX7_harmAt_139 : decode cX7_harmAt 139 = .ok (.lconst 0, 1) := dk_9 (dk_at dksX7_harmAt_5 20 rfl rfl)
theorem dX7_harmAt_140 : decode cX7_harmAt 140 = .ok (.goto 9, 3) := dk_167 0 9 (dk_at dksX7_harmAt_5 21 rfl rfl)
theorem dX7_harmAt_143 : decode cX7_harmAt 143 = .ok (.aload_n 0, 1) := dk_42 (dk_at dksX7_harmAt_6 0 rfl rfl)
theorem dX7_harmAt_144 : decode cX7_harmAt 144 = .ok (.getfield 269, 3) := dk_180 1 13 (dk_at dksX7_harmAt_6 1 rfl rfl)
theorem dX7_harmAt_147 : decode cX7_harmAt 147 = .ok (.iconst 0, 1) := dk_3 (dk_at dksX7_harmAt_6 4 rfl rfl)
theorem dX7_harmAt_148 : decode cX7_harmAt 148 = .ok (.laload, 1) := dk_47 (dk_at dksX7_harmAt_6 5 rfl rfl)
theorem dX7_harmAt_149 : decode cX7_harmAt 149 = .ok (.lreturn, 1) := dk_173 (dk_at dksX7_harmAt_6 6 rfl rfl)
abbrev cX7_qPuts : ByteArray := prog_25_method_137_code
def yX7_qPuts : MethodName := ⟨RX7, "qPuts", "(J)V"⟩
def dkwX7_qPuts_0 : List UInt8 := [42, 180, 1, 13, 42, 180, 2, 21, 31, 80, 42, 89, 180, 2, 21, 4, 96, 181, 2, 21, 177]
abbrev dktX7_qPuts_0 : List UInt8 := dkwX7_qPuts_0 ++ []
theorem dksX7_qPuts_0 : cX7_qPuts.data.toList.drop 0 = dktX7_qPuts_0 := by decide +kernel
theorem dX7_qPuts_0 : decode cX7_qPuts 0 = .ok (.aload_n 0, 1) := dk_42 (dk_at dksX7_qPuts_0 0 rfl rfl)
theorem dX7_qPuts_1 : decode cX7_qPuts 1 = .ok (.getfield 269, 3) := dk_180 1 13 (dk_at dksX7_qPuts_0 1 rfl rfl)
theorem dX7_qPuts_4 : decode cX7_qPuts 4 = .ok (.aload_n 0, 1) := dk_42 (dk_at dksX7_qPuts_0 4 rfl rfl)
theorem dX7_qPuts_5 : decode cX7_qPuts 5 = .ok (.getfield 533, 3) := dk_180 2 21 (dk_at dksX7_qPuts_0 5 rfl rfl)
theorem dX7_qPuts_8 : decode cX7_qPuts 8 = .ok (.lload_n 1, 1) := dk_31 (dk_at dksX7_qPuts_0 8 rfl rfl)
theorem dX7_qPuts_9 : decode cX7_qPuts 9 = .ok (.lastore, 1) := dk_80 (dk_at dksX7_qPuts_0 9 rfl rfl)
theorem dX7_qPuts_10 : decode cX7_qPuts 10 = .ok (.aload_n 0, 1) := dk_42 (dk_at dksX7_qPuts_0 10 rfl rfl)
theorem dX7_qPuts_11 : decode cX7_qPuts 11 = .ok (.dup, 1) := dk_89 (dk_at dksX7_qPuts_0 11 rfl rfl)
theorem dX7_qPuts_12 : decode cX7_qPuts 12 = .ok (.getfield 533, 3) := dk_180 2 21 (dk_at dksX7_qPuts_0 12 rfl rfl)
theorem dX7_qPuts_15 : decode cX7_qPuts 15 = .ok (.iconst 1, 1) := dk_4 (dk_at dksX7_qPuts_0 15 rfl rfl)
theorem dX7_qPuts_16 : decode cX7_qPuts 16 = .ok (.iadd, 1) := dk_96 (dk_at dksX7_qPuts_0 16 rfl rfl)
theorem dX7_qPuts_17 : decode cX7_qPuts 17 = .ok (.putfield 533, 3) := dk_181 2 21 (dk_at dksX7_qPuts_0 17 rfl rfl)
theorem dX7_qPuts_20 : decode cX7_qPuts 20 = .ok (.return_, 1) := dk_177 (dk_at dksX7_qPuts_0 20 rfl rfl)
abbrev cX7_qPartOf : ByteArray := prog_25_method_139_code
def yX7_qPartOf : MethodName := ⟨RX7, "qPartOf", "(II)J"⟩
def dkwX7_qPartOf_5 : List UInt8 := [180, 0, 172, 28, 46, 133, 173]
abbrev dktX7_qPartOf_5 : List UInt8 := dkwX7_qPartOf_5 ++ []
def dkwX7_qPartOf_4 : List UInt8 := [28, 182, 1, 234, 133, 173, 42, 180, 0, 130, 16, 21, 7, 42, 28, 182, 1, 187, 104, 96, 46, 133, 173, 42]
abbrev dktX7_qPartOf_4 : List UInt8 := dkwX7_qPartOf_4 ++ dktX7_qPartOf_5
def dkwX7_qPartOf_3 : List UInt8 := [133, 173, 42, 28, 182, 1, 183, 133, 173, 42, 28, 182, 1, 190, 133, 173, 42, 28, 182, 1, 212, 133, 173, 42]
abbrev dktX7_qPartOf_3 : List UInt8 := dkwX7_qPartOf_3 ++ dktX7_qPartOf_4
def dkwX7_qPartOf_2 : List UInt8 := [42, 180, 2, 15, 173, 42, 180, 2, 44, 173, 42, 180, 2, 18, 173, 42, 180, 0, 154, 3, 46, 133, 173, 28]
abbrev dktX7_qPartOf_2 : List UInt8 := dkwX7_qPartOf_2 ++ dktX7_qPartOf_3
def dkwX7_qPartOf_1 : List UInt8 := [170, 0, 0, 0, 0, 0, 126, 0, 0, 0, 0, 0, 0, 0, 9, 0, 0, 0, 55, 0, 0, 0, 60, 0, 0, 0, 65, 0, 0, 0, 70, 0, 0, 0, 78, 0, 0, 0, 81, 0, 0, 0, 88, 0, 0, 0, 95, 0, 0, 0, 102, 0, 0, 0, 109]
abbrev dktX7_qPartOf_1 : List UInt8 := dkwX7_qPartOf_1 ++ dktX7_qPartOf_2
def dkwX7_qPartOf_0 : List UInt8 := [27]
abbrev dktX7_qPartOf_0 : List UInt8 := dkwX7_qPartOf_0 ++ dktX7_qPartOf_1
theorem dksX7_qPartOf_0 : cX7_qPartOf.data.toList.drop 0 = dktX7_qPartOf_0 := by decide +kernel
theorem dksX7_qPartOf_1 : cX7_qPartOf.data.toList.drop 1 = dktX7_qPartOf_1 := dk_seg dksX7_qPartOf_0 1 rfl rfl
theorem dksX7_qPartOf_2 : cX7_qPartOf.data.toList.drop 56 = dktX7_qPartOf_2 := dk_seg dksX7_qPartOf_1 55 rfl rfl
theorem dksX7_qPartOf_3 : cX7_qPartOf.data.toList.drop 80 = dktX7_qPartOf_3 := dk_seg dksX7_qPartOf_2 24 rfl rfl
theorem dksX7_qPartOf_4 : cX7_qPartOf.data.toList.drop 104 = dktX7_qPartOf_4 := dk_seg dksX7_qPartOf_3 24 rfl rfl
theorem dksX7_qPartOf_5 : cX7_qPartOf.data.toList.drop 128 = dktX7_qPartOf_5 := dk_seg dksX7_qPartOf_4 24 rfl rfl
theorem dX7_qPartOf_0 : decode cX7_qPartOf 0 = .ok (.iload_n 1, 1) := dk_27 (dk_at dksX7_qPartOf_0 0 rfl rfl)
theorem dX7_qPartOf_1 : decode cX7_qPartOf 1 = .ok (.tableswitch 126 0 9 #[55, 60, 65, 70, 78, 81, 88, 95, 102, 109], 55) := by decide +kernel
theorem dX7_qPartOf_56 : decode cX7_qPartOf 56 = .ok (.aload_n 0, 1) := dk_42 (dk_at dksX7_qPartOf_2 0 rfl rfl)
theorem dX7_qPartOf_57 : decode cX7_qPartOf 57 = .ok (.getfield 527, 3) := dk_180 2 15 (dk_at dksX7_qPartOf_2 1 rfl rfl)
theorem dX7_qPartOf_60 : decode cX7_qPartOf 60 = .ok (.lreturn, 1) := dk_173 (dk_at dksX7_qPartOf_2 4 rfl rfl)
theorem dX7_qPartOf_61 : decode cX7_qPartOf 61 = .ok (.aload_n 0, 1) := dk_42 (dk_at dksX7_qPartOf_2 5 rfl rfl)
theorem dX7_qPartOf_62 : decode cX7_qPartOf 62 = .ok (.getfield 556, 3) := dk_180 2 44 (dk_at dksX7_qPartOf_2 6 rfl rfl)
theorem dX7_qPartOf_65 : decode cX7_qPartOf 65 = .ok (.lreturn, 1) := dk_173 (dk_at dksX7_qPartOf_2 9 rfl rfl)
theorem dX7_qPartOf_66 : decode cX7_qPartOf 66 = .ok (.aload_n 0, 1) := dk_42 (dk_at dksX7_qPartOf_2 10 rfl rfl)
theorem dX7_qPartOf_67 : decode cX7_qPartOf 67 = .ok (.getfield 530, 3) := dk_180 2 18 (dk_at dksX7_qPartOf_2 11 rfl rfl)
theorem dX7_qPartOf_70 : decode cX7_qPartOf 70 = .ok (.lreturn, 1) := dk_173 (dk_at dksX7_qPartOf_2 14 rfl rfl)
theorem dX7_qPartOf_71 : decode cX7_qPartOf 71 = .ok (.aload_n 0, 1) := dk_42 (dk_at dksX7_qPartOf_2 15 rfl rfl)
theorem dX7_qPartOf_72 : decode cX7_qPartOf 72 = .ok (.getfield 154, 3) := dk_180 0 154 (dk_at dksX7_qPartOf_2 16 rfl rfl)
theorem dX7_qPartOf_75 : decode cX7_qPartOf 75 = .ok (.iconst 0, 1) := dk_3 (dk_at dksX7_qPartOf_2 19 rfl rfl)
theorem dX7_qPartOf_76 : decode cX7_qPartOf 76 = .ok (.iaload, 1) := dk_46 (dk_at dksX7_qPartOf_2 20 rfl rfl)
theorem dX7_qPartOf_77 : decode cX7_qPartOf 77 = .ok (.i2l, 1) := dk_133 (dk_at dksX7_qPartOf_2 21 rfl rfl)
theorem dX7_qPartOf_78 : decode cX7_qPartOf 78 = .ok (.lreturn, 1) := dk_173 (dk_at dksX7_qPartOf_2 22 rfl rfl)
theorem dX7_qPartOf_79 : decode cX7_qPartOf 79 = .ok (.iload_n 2, 1) := dk_28 (dk_at dksX7_qPartOf_2 23 rfl rfl)
theorem dX7_qPartOf_80 : decode cX7_qPartOf 80 = .ok (.i2l, 1) := dk_133 (dk_at dksX7_qPartOf_3 0 rfl rfl)
theorem dX7_qPartOf_81 : decode cX7_qPartOf 81 = .ok (.lreturn, 1) := dk_173 (dk_at dksX7_qPartOf_3 1 rfl rfl)
theorem dX7_qPartOf_82 : decode cX7_qPartOf 82 = .ok (.aload_n 0, 1) := dk_42 (dk_at dksX7_qPartOf_3 2 rfl rfl)
theorem dX7_qPartOf_83 : decode cX7_qPartOf 83 = .ok (.iload_n 2, 1) := dk_28 (dk_at dksX7_qPartOf_3 3 rfl rfl)
theorem dX7_qPartOf_84 : decode cX7_qPartOf 84 = .ok (.invokevirtual 439, 3) := dk_182 1 183 (dk_at dksX7_qPartOf_3 4 rfl rfl)
theorem dX7_qPartOf_87 : decode cX7_qPartOf 87 = .ok (.i2l, 1) := dk_133 (dk_at dksX7_qPartOf_3 7 rfl rfl)
theorem dX7_qPartOf_88 : decode cX7_qPartOf 88 = .ok (.lreturn, 1) := dk_173 (dk_at dksX7_qPartOf_3 8 rfl rfl)
theorem dX7_qPartOf_89 : decode cX7_qPartOf 89 = .ok (.aload_n 0, 1) := dk_42 (dk_at dksX7_qPartOf_3 9 rfl rfl)
theorem dX7_qPartOf_90 : decode cX7_qPartOf 90 = .ok (.iload_n 2, 1) := dk_28 (dk_at dksX7_qPartOf_3 10 rfl rfl)
theorem dX7_qPartOf_91 : decode cX7_qPartOf 91 = .ok (.invokevirtual 446, 3) := dk_182 1 190 (dk_at dksX7_qPartOf_3 11 rfl rfl)
theorem dX7_qPartOf_94 : decode cX7_qPartOf 94 = .ok (.i2l, 1) := dk_133 (dk_at dksX7_qPartOf_3 14 rfl rfl)
theorem dX7_qPartOf_95 : decode cX7_qPartOf 95 = .ok (.lreturn, 1) := dk_173 (dk_at dksX7_qPartOf_3 15 rfl rfl)
theorem dX7_qPartOf_96 : decode cX7_qPartOf 96 = .ok (.aload_n 0, 1) := dk_42 (dk_at dksX7_qPartOf_3 16 rfl rfl)
theorem dX7_qPartOf_97 : decode cX7_qPartOf 97 = .ok (.iload_n 2, 1) := dk_28 (dk_at dksX7_qPartOf_3 17 rfl rfl)
theorem dX7_qPartOf_98 : decode cX7_qPartOf 98 = .ok (.invokevirtual 468, 3) := dk_182 1 212 (dk_at dksX7_qPartOf_3 18 rfl rfl)
theorem dX7_qPartOf_101 : decode cX7_qPartOf 101 = .ok (.i2l, 1) := dk_133 (dk_at dksX7_qPartOf_3 21 rfl rfl)
theorem dX7_qPartOf_102 : decode cX7_qPartOf 102 = .ok (.lreturn, 1) := dk_173 (dk_at dksX7_qPartOf_3 22 rfl rfl)
theorem dX7_qPartOf_103 : decode cX7_qPartOf 103 = .ok (.aload_n 0, 1) := dk_42 (dk_at dksX7_qPartOf_3 23 rfl rfl)
theorem dX7_qPartOf_104 : decode cX7_qPartOf 104 = .ok (.iload_n 2, 1) := dk_28 (dk_at dksX7_qPartOf_4 0 rfl rfl)
theorem dX7_qPartOf_105 : decode cX7_qPartOf 105 = .ok (.invokevirtual 490, 3) := dk_182 1 234 (dk_at dksX7_qPartOf_4 1 rfl rfl)
theorem dX7_qPartOf_108 : decode cX7_qPartOf 108 = .ok (.i2l, 1) := dk_133 (dk_at dksX7_qPartOf_4 4 rfl rfl)
theorem dX7_qPartOf_109 : decode cX7_qPartOf 109 = .ok (.lreturn, 1) := dk_173 (dk_at dksX7_qPartOf_4 5 rfl rfl)
theorem dX7_qPartOf_110 : decode cX7_qPartOf 110 = .ok (.aload_n 0, 1) := dk_42 (dk_at dksX7_qPartOf_4 6 rfl rfl)
theorem dX7_qPartOf_111 : decode cX7_qPartOf 111 = .ok (.getfield 130, 3) := dk_180 0 130 (dk_at dksX7_qPartOf_4 7 rfl rfl)
theorem dX7_qPartOf_114 : decode cX7_qPartOf 114 = .ok (.bipush 21, 2) := dk_16 21 (dk_at dksX7_qPartOf_4 10 rfl rfl)
theorem dX7_qPartOf_116 : decode cX7_qPartOf 116 = .ok (.iconst 4, 1) := dk_7 (dk_at dksX7_qPartOf_4 12 rfl rfl)
theorem dX7_qPartOf_117 : decode cX7_qPartOf 117 = .ok (.aload_n 0, 1) := dk_42 (dk_at dksX7_qPartOf_4 13 rfl rfl)
theorem dX7_qPartOf_118 : decode cX7_qPartOf 118 = .ok (.iload_n 2, 1) := dk_28 (dk_at dksX7_qPartOf_4 14 rfl rfl)
theorem dX7_qPartOf_119 : decode cX7_qPartOf 119 = .ok (.invokevirtual 443, 3) := dk_182 1 187 (dk_at dksX7_qPartOf_4 15 rfl rfl)
theorem dX7_qPartOf_122 : decode cX7_qPartOf 122 = .ok (.imul, 1) := dk_104 (dk_at dksX7_qPartOf_4 18 rfl rfl)
theorem dX7_qPartOf_123 : decode cX7_qPartOf 123 = .ok (.iadd, 1) := dk_96 (dk_at dksX7_qPartOf_4 19 rfl rfl)
theorem dX7_qPartOf_124 : decode cX7_qPartOf 124 = .ok (.iaload, 1) := dk_46 (dk_at dksX7_qPartOf_4 20 rfl rfl)
theorem dX7_qPartOf_125 : decode cX7_qPartOf 125 = .ok (.i2l, 1) := dk_133 (dk_at dksX7_qPartOf_4 21 rfl rfl)
theorem dX7_qPartOf_126 : decode cX7_qPartOf 126 = .ok (.lreturn, 1) := dk_173 (dk_at dksX7_qPartOf_4 22 rfl rfl)
theorem dX7_qPartOf_127 : decode cX7_qPartOf 127 = .ok (.aload_n 0, 1) := dk_42 (dk_at dksX7_qPartOf_4 23 rfl rfl)
theorem dX7_qPartOf_128 : decode cX7_qPartOf 128 = .ok (.getfield 172, 3) := dk_180 0 172 (dk_at dksX7_qPartOf_5 0 rfl rfl)
theorem dX7_qPartOf_131 : decode cX7_qPartOf 131 = .ok (.iload_n 2, 1) := dk_28 (dk_at dksX7_qPartOf_5 3 rfl rfl)
theorem dX7_qPartOf_132 : decode cX7_qPartOf 132 = .ok (.iaload, 1) := dk_46 (dk_at dksX7_qPartOf_5 4 rfl rfl)
theorem dX7_qPartOf_133 : decode cX7_qPartOf 133 = .ok (.i2l, 1) := dk_133 (dk_at dksX7_qPartOf_5 5 rfl rfl)
theorem dX7_qPartOf_134 : decode cX7_qPartOf 134 = .ok (.lreturn, 1) := dk_173 (dk_at dksX7_qPartOf_5 6 rfl rfl)
abbrev cX7_qJoins : ByteArray := prog_25_method_138_code
def yX7_qJoins : MethodName := ⟨RX7, "qJoins", "(I)V"⟩
def dkwX7_qJoins_10 : List UInt8 := [167, 0, 21, 42, 22, 4, 32, 97, 9, 148, 158, 0, 7, 10, 167, 0, 4, 9, 182, 2, 24, 177]
abbrev dktX7_qJoins_10 : List UInt8 := dkwX7_qJoins_10 ++ []
def dkwX7_qJoins_9 : List UInt8 := [154, 0, 7, 10, 167, 0, 4, 9, 182, 2, 24, 167, 0, 32, 42, 22, 4, 32, 105, 182, 2, 24]
abbrev dktX7_qJoins_9 : List UInt8 := dkwX7_qJoins_9 ++ dktX7_qJoins_10
def dkwX7_qJoins_8 : List UInt8 := [22, 4, 32, 148, 158, 0, 7, 10, 167, 0, 4, 9, 182, 2, 24, 167, 0, 51, 42, 22, 4, 32, 148]
abbrev dktX7_qJoins_8 : List UInt8 := dkwX7_qJoins_8 ++ dktX7_qJoins_9
def dkwX7_qJoins_7 : List UInt8 := [167, 0, 89, 42, 22, 4, 32, 148, 156, 0, 7, 10, 167, 0, 4, 9, 182, 2, 24, 167, 0, 70, 42]
abbrev dktX7_qJoins_7 : List UInt8 := dkwX7_qJoins_7 ++ dktX7_qJoins_8
def dkwX7_qJoins_6 : List UInt8 := [182, 2, 24, 167, 0, 109, 42, 22, 4, 32, 148, 158, 0, 8, 22, 4, 167, 0, 4, 32, 182, 2, 24]
abbrev dktX7_qJoins_6 : List UInt8 := dkwX7_qJoins_6 ++ dktX7_qJoins_7
def dkwX7_qJoins_5 : List UInt8 := [184, 2, 229, 182, 2, 24, 167, 0, 129, 42, 22, 4, 32, 148, 156, 0, 8, 22, 4, 167, 0, 4, 32]
abbrev dktX7_qJoins_5 : List UInt8 := dkwX7_qJoins_5 ++ dktX7_qJoins_6
def dkwX7_qJoins_4 : List UInt8 := [182, 2, 24, 167, 0, 156, 42, 22, 4, 32, 105, 184, 2, 225, 182, 2, 24, 167, 0, 142, 42, 22, 4, 32]
abbrev dktX7_qJoins_4 : List UInt8 := dkwX7_qJoins_4 ++ dktX7_qJoins_5
def dkwX7_qJoins_3 : List UInt8 := [42, 22, 4, 32, 97, 184, 2, 225, 182, 2, 24, 167, 0, 170, 42, 22, 4, 32, 101, 184, 2, 225]
abbrev dktX7_qJoins_3 : List UInt8 := dkwX7_qJoins_3 ++ dktX7_qJoins_4
def dkwX7_qJoins_2 : List UInt8 := [170, 0, 0, 0, 0, 0, 0, 219, 0, 0, 0, 1, 0, 0, 0, 10, 0, 0, 0, 56, 0, 0, 0, 70, 0, 0, 0, 84, 0, 0, 0, 98, 0, 0, 0, 111, 0, 0, 0, 131, 0, 0, 0, 151, 0, 0, 0, 170, 0, 0, 0, 189, 0, 0, 0, 208]
abbrev dktX7_qJoins_2 : List UInt8 := dkwX7_qJoins_2 ++ dktX7_qJoins_3
def dkwX7_qJoins_1 : List UInt8 := [55, 4, 42, 89, 180, 2, 21, 5, 100, 181, 2, 21, 27]
abbrev dktX7_qJoins_1 : List UInt8 := dkwX7_qJoins_1 ++ dktX7_qJoins_2
def dkwX7_qJoins_0 : List UInt8 := [42, 180, 1, 13, 42, 180, 2, 21, 4, 100, 47, 65, 42, 180, 1, 13, 42, 180, 2, 21, 5, 100, 47]
abbrev dktX7_qJoins_0 : List UInt8 := dkwX7_qJoins_0 ++ dktX7_qJoins_1
theorem dksX7_qJoins_0 : cX7_qJoins.data.toList.drop 0 = dktX7_qJoins_0 := by decide +kernel
theorem dksX7_qJoins_1 : cX7_qJoins.data.toList.drop 23 = dktX7_qJoins_1 := dk_seg dksX7_qJoins_0 23 rfl rfl
theorem dksX7_qJoins_2 : cX7_qJoins.data.toList.drop 36 = dktX7_qJoins_2 := dk_seg dksX7_qJoins_1 13 rfl rfl
theorem dksX7_qJoins_3 : cX7_qJoins.data.toList.drop 92 = dktX7_qJoins_3 := dk_seg dksX7_qJoins_2 56 rfl rfl
theorem dksX7_qJoins_4 : cX7_qJoins.data.toList.drop 114 = dktX7_qJoins_4 := dk_seg dksX7_qJoins_3 22 rfl rfl
theorem dksX7_qJoins_5 : cX7_qJoins.data.toList.drop 138 = dktX7_qJoins_5 := dk_seg dksX7_qJoins_4 24 rfl rfl
theorem dksX7_qJoins_6 : cX7_qJoins.data.toList.drop 161 = dktX7_qJoins_6 := dk_seg dksX7_qJoins_5 23 rfl rfl
theorem dksX7_qJoins_7 : cX7_qJoins.data.toList.drop 184 = dktX7_qJoins_7 := dk_seg dksX7_qJoins_6 23 rfl rfl
theorem dksX7_qJoins_8 : cX7_qJoins.data.toList.drop 207 = dktX7_qJoins_8 := dk_seg dksX7_qJoins_7 23 rfl rfl
theorem dksX7_qJoins_9 : cX7_qJoins.data.toList.drop 230 = dktX7_qJoins_9 := dk_seg dksX7_qJoins_8 23 rfl rfl
theorem dksX7_qJoins_10 : cX7_qJoins.data.toList.drop 252 = dktX7_qJoins_10 := dk_seg dksX7_qJoins_9 22 rfl rfl
theorem dX7_qJoins_0 : decode cX7_qJoins 0 = .ok (.aload_n 0, 1) := dk_42 (dk_at dksX7_qJoins_0 0 rfl rfl)
theorem dX7_qJoins_1 : decode cX7_qJoins 1 = .ok (.getfield 269, 3) := dk_180 1 13 (dk_at dksX7_qJoins_0 1 rfl rfl)
theorem dX7_qJoins_4 : decode cX7_qJoins 4 = .ok (.aload_n 0, 1) := dk_42 (dk_at dksX7_qJoins_0 4 rfl rfl)
theorem dX7_qJoins_5 : decode cX7_qJoins 5 = .ok (.getfield 533, 3) := dk_180 2 21 (dk_at dksX7_qJoins_0 5 rfl rfl)
theorem dX7_qJoins_8 : decode cX7_qJoins 8 = .ok (.iconst 1, 1) := dk_4 (dk_at dksX7_qJoins_0 8 rfl rfl)
theorem dX7_qJoins_9 : decode cX7_qJoins 9 = .ok (.isub, 1) := dk_100 (dk_at dksX7_qJoins_0 9 rfl rfl)
theorem dX7_qJoins_10 : decode cX7_qJoins 10 = .ok (.laload, 1) := dk_47 (dk_at dksX7_qJoins_0 10 rfl rfl)
theorem dX7_qJoins_11 : decode cX7_qJoins 11 = .ok (.lstore_n 2, 1) := dk_65 (dk_at dksX7_qJoins_0 11 rfl rfl)
theorem dX7_qJoins_12 : decode cX7_qJoins 12 = .ok (.aload_n 0, 1) := dk_42 (dk_at dksX7_qJoins_0 12 rfl rfl)
theorem dX7_qJoins_13 : decode cX7_qJoins 13 = .ok (.getfield 269, 3) := dk_180 1 13 (dk_at dksX7_qJoins_0 13 rfl rfl)
theorem dX7_qJoins_16 : decode cX7_qJoins 16 = .ok (.aload_n 0, 1) := dk_42 (dk_at dksX7_qJoins_0 16 rfl rfl)
theorem dX7_qJoins_17 : decode cX7_qJoins 17 = .ok (.getfield 533, 3) := dk_180 2 21 (dk_at dksX7_qJoins_0 17 rfl rfl)
theorem dX7_qJoins_20 : decode cX7_qJoins 20 = .ok (.iconst 2, 1) := dk_5 (dk_at dksX7_qJoins_0 20 rfl rfl)
theorem dX7_qJoins_21 : decode cX7_qJoins 21 = .ok (.isub, 1) := dk_100 (dk_at dksX7_qJoins_0 21 rfl rfl)
theorem dX7_qJoins_22 : decode cX7_qJoins 22 = .ok (.laload, 1) := dk_47 (dk_at dksX7_qJoins_0 22 rfl rfl)
theorem dX7_qJoins_23 : decode cX7_qJoins 23 = .ok (.lstore 4, 2) := dk_55 4 (dk_at dksX7_qJoins_1 0 rfl rfl)
theorem dX7_qJoins_25 : decode cX7_qJoins 25 = .ok (.aload_n 0, 1) := dk_42 (dk_at dksX7_qJoins_1 2 rfl rfl)
theorem dX7_qJoins_26 : decode cX7_qJoins 26 = .ok (.dup, 1) := dk_89 (dk_at dksX7_qJoins_1 3 rfl rfl)
theorem dX7_qJoins_27 : decode cX7_qJoins 27 = .ok (.getfield 533, 3) := dk_180 2 21 (dk_at dksX7_qJoins_1 4 rfl rfl)
theorem dX7_qJoins_30 : decode cX7_qJoins 30 = .ok (.iconst 2, 1) := dk_5 (dk_at dksX7_qJoins_1 7 rfl rfl)
theorem dX7_qJoins_31 : decode cX7_qJoins 31 = .ok (.isub, 1) := dk_100 (dk_at dksX7_qJoins_1 8 rfl rfl)
theorem dX7_qJoins_32 : decode cX7_qJoins 32 = .ok (.putfield 533, 3) := dk_181 2 21 (dk_at dksX7_qJoins_1 9 rfl rfl)
theorem dX7_qJoins_35 : decode cX7_qJoins 35 = .ok (.iload_n 1, 1) := dk_27 (dk_at dksX7_qJoins_1 12 rfl rfl)
theorem dX7_qJoins_36 : decode cX7_qJoins 36 = .ok (.tableswitch 219 1 10 #[56, 70, 84, 98, 111, 131, 151, 170, 189, 208], 56) := by decide +kernel
theorem dX7_qJoins_92 : decode cX7_qJoins 92 = .ok (.aload_n 0, 1) := dk_42 (dk_at dksX7_qJoins_3 0 rfl rfl)
theorem dX7_qJoins_93 : decode cX7_qJoins 93 = .ok (.lload 4, 2) := dk_22 4 (dk_at dksX7_qJoins_3 1 rfl rfl)
theorem dX7_qJoins_95 : decode cX7_qJoins 95 = .ok (.lload_n 2, 1) := dk_32 (dk_at dksX7_qJoins_3 3 rfl rfl)
theorem dX7_qJoins_96 : decode cX7_qJoins 96 = .ok (.ladd, 1) := dk_97 (dk_at dksX7_qJoins_3 4 rfl rfl)
theorem dX7_qJoins_97 : decode cX7_qJoins 97 = .ok (.invokestatic 737, 3) := dk_184 2 225 (dk_at dksX7_qJoins_3 5 rfl rfl)
theorem dX7_qJoins_100 : decode cX7_qJoins 100 = .ok (.invokevirtual 536, 3) := dk_182 2 24 (dk_at dksX7_qJoins_3 8 rfl rfl)
theorem dX7_qJoins_103 : decode cX7_qJoins 103 = .ok (.goto 170, 3) := dk_167 0 170 (dk_at dksX7_qJoins_3 11 rfl rfl)
theorem dX7_qJoins_106 : decode cX7_qJoins 106 = .ok (.aload_n 0, 1) := dk_42 (dk_at dksX7_qJoins_3 14 rfl rfl)
theorem dX7_qJoins_107 : decode cX7_qJoins 107 = .ok (.lload 4, 2) := dk_22 4 (dk_at dksX7_qJoins_3 15 rfl rfl)
theorem dX7_qJoins_109 : decode cX7_qJoins 109 = .ok (.lload_n 2, 1) := dk_32 (dk_at dksX7_qJoins_3 17 rfl rfl)
theorem dX7_qJoins_110 : decode cX7_qJoins 110 = .ok (.lsub, 1) := dk_101 (dk_at dksX7_qJoins_3 18 rfl rfl)
theorem dX7_qJoins_111 : decode cX7_qJoins 111 = .ok (.invokestatic 737, 3) := dk_184 2 225 (dk_at dksX7_qJoins_3 19 rfl rfl)
theorem dX7_qJoins_114 : decode cX7_qJoins 114 = .ok (.invokevirtual 536, 3) := dk_182 2 24 (dk_at dksX7_qJoins_4 0 rfl rfl)
theorem dX7_qJoins_117 : decode cX7_qJoins 117 = .ok (.goto 156, 3) := dk_167 0 156 (dk_at dksX7_qJoins_4 3 rfl rfl)
theorem dX7_qJoins_120 : decode cX7_qJoins 120 = .ok (.aload_n 0, 1) := dk_42 (dk_at dksX7_qJoins_4 6 rfl rfl)
theorem dX7_qJoins_121 : decode cX7_qJoins 121 = .ok (.lload 4, 2) := dk_22 4 (dk_at dksX7_qJoins_4 7 rfl rfl)
theorem dX7_qJoins_123 : decode cX7_qJoins 123 = .ok (.lload_n 2, 1) := dk_32 (dk_at dksX7_qJoins_4 9 rfl rfl)
theorem dX7_qJoins_124 : decode cX7_qJoins 124 = .ok (.lmul, 1) := dk_105 (dk_at dksX7_qJoins_4 10 rfl rfl)
theorem dX7_qJoins_125 : decode cX7_qJoins 125 = .ok (.invokestatic 737, 3) := dk_184 2 225 (dk_at dksX7_qJoins_4 11 rfl rfl)
theorem dX7_qJoins_128 : decode cX7_qJoins 128 = .ok (.invokevirtual 536, 3) := dk_182 2 24 (dk_at dksX7_qJoins_4 14 rfl rfl)
theorem dX7_qJoins_131 : decode cX7_qJoins 131 = .ok (.goto 142, 3) := dk_167 0 142 (dk_at dksX7_qJoins_4 17 rfl rfl)
theorem dX7_qJoins_134 : decode cX7_qJoins 134 = .ok (.aload_n 0, 1) := dk_42 (dk_at dksX7_qJoins_4 20 rfl rfl)
theorem dX7_qJoins_135 : decode cX7_qJoins 135 = .ok (.lload 4, 2) := dk_22 4 (dk_at dksX7_qJoins_4 21 rfl rfl)
theorem dX7_qJoins_137 : decode cX7_qJoins 137 = .ok (.lload_n 2, 1) := dk_32 (dk_at dksX7_qJoins_4 23 rfl rfl)
theorem dX7_qJoins_138 : decode cX7_qJoins 138 = .ok (.invokestatic 741, 3) := dk_184 2 229 (dk_at dksX7_qJoins_5 0 rfl rfl)
theorem dX7_qJoins_141 : decode cX7_qJoins 141 = .ok (.invokevirtual 536, 3) := dk_182 2 24 (dk_at dksX7_qJoins_5 3 rfl rfl)
theorem dX7_qJoins_144 : decode cX7_qJoins 144 = .ok (.goto 129, 3) := dk_167 0 129 (dk_at dksX7_qJoins_5 6 rfl rfl)
theorem dX7_qJoins_147 : decode cX7_qJoins 147 = .ok (.aload_n 0, 1) := dk_42 (dk_at dksX7_qJoins_5 9 rfl rfl)
theorem dX7_qJoins_148 : decode cX7_qJoins 148 = .ok (.lload 4, 2) := dk_22 4 (dk_at dksX7_qJoins_5 10 rfl rfl)
theorem dX7_qJoins_150 : decode cX7_qJoins 150 = .ok (.lload_n 2, 1) := dk_32 (dk_at dksX7_qJoins_5 12 rfl rfl)
theorem dX7_qJoins_151 : decode cX7_qJoins 151 = .ok (.lcmp, 1) := dk_148 (dk_at dksX7_qJoins_5 13 rfl rfl)
theorem dX7_qJoins_152 : decode cX7_qJoins 152 = .ok (.ifCond .ge 8, 3) := dk_156 0 8 (dk_at dksX7_qJoins_5 14 rfl rfl)
theorem dX7_qJoins_155 : decode cX7_qJoins 155 = .ok (.lload 4, 2) := dk_22 4 (dk_at dksX7_qJoins_5 17 rfl rfl)
theorem dX7_qJoins_157 : decode cX7_qJoins 157 = .ok (.goto 4, 3) := dk_167 0 4 (dk_at dksX7_qJoins_5 19 rfl rfl)
theorem dX7_qJoins_160 : decode cX7_qJoins 160 = .ok (.lload_n 2, 1) := dk_32 (dk_at dksX7_qJoins_5 22 rfl rfl)
theorem dX7_qJoins_161 : decode cX7_qJoins 161 = .ok (.invokevirtual 536, 3) := dk_182 2 24 (dk_at dksX7_qJoins_6 0 rfl rfl)
theorem dX7_qJoins_164 : decode cX7_qJoins 164 = .ok (.goto 109, 3) := dk_167 0 109 (dk_at dksX7_qJoins_6 3 rfl rfl)
theorem dX7_qJoins_167 : decode cX7_qJoins 167 = .ok (.aload_n 0, 1) := dk_42 (dk_at dksX7_qJoins_6 6 rfl rfl)
theorem dX7_qJoins_168 : decode cX7_qJoins 168 = .ok (.lload 4, 2) := dk_22 4 (dk_at dksX7_qJoins_6 7 rfl rfl)
theorem dX7_qJoins_170 : decode cX7_qJoins 170 = .ok (.lload_n 2, 1) := dk_32 (dk_at dksX7_qJoins_6 9 rfl rfl)
theorem dX7_qJoins_171 : decode cX7_qJoins 171 = .ok (.lcmp, 1) := dk_148 (dk_at dksX7_qJoins_6 10 rfl rfl)
theorem dX7_qJoins_172 : decode cX7_qJoins 172 = .ok (.ifCond .le 8, 3) := dk_158 0 8 (dk_at dksX7_qJoins_6 11 rfl rfl)
theorem dX7_qJoins_175 : decode cX7_qJoins 175 = .ok (.lload 4, 2) := dk_22 4 (dk_at dksX7_qJoins_6 14 rfl rfl)
theorem dX7_qJoins_177 : decode cX7_qJoins 177 = .ok (.goto 4, 3) := dk_167 0 4 (dk_at dksX7_qJoins_6 16 rfl rfl)
theorem dX7_qJoins_180 : decode cX7_qJoins 180 = .ok (.lload_n 2, 1) := dk_32 (dk_at dksX7_qJoins_6 19 rfl rfl)
theorem dX7_qJoins_181 : decode cX7_qJoins 181 = .ok (.invokevirtual 536, 3) := dk_182 2 24 (dk_at dksX7_qJoins_6 20 rfl rfl)
theorem dX7_qJoins_184 : decode cX7_qJoins 184 = .ok (.goto 89, 3) := dk_167 0 89 (dk_at dksX7_qJoins_7 0 rfl rfl)
theorem dX7_qJoins_187 : decode cX7_qJoins 187 = .ok (.aload_n 0, 1) := dk_42 (dk_at dksX7_qJoins_7 3 rfl rfl)
theorem dX7_qJoins_188 : decode cX7_qJoins 188 = .ok (.lload 4, 2) := dk_22 4 (dk_at dksX7_qJoins_7 4 rfl rfl)
theorem dX7_qJoins_190 : decode cX7_qJoins 190 = .ok (.lload_n 2, 1) := dk_32 (dk_at dksX7_qJoins_7 6 rfl rfl)
theorem dX7_qJoins_191 : decode cX7_qJoins 191 = .ok (.lcmp, 1) := dk_148 (dk_at dksX7_qJoins_7 7 rfl rfl)
theorem dX7_qJoins_192 : decode cX7_qJoins 192 = .ok (.ifCond .ge 7, 3) := dk_156 0 7 (dk_at dksX7_qJoins_7 8 rfl rfl)
theorem dX7_qJoins_195 : decode cX7_qJoins 195 = .ok (.lconst 1, 1) := dk_10 (dk_at dksX7_qJoins_7 11 rfl rfl)
theorem dX7_qJoins_196 : decode cX7_qJoins 196 = .ok (.goto 4, 3) := dk_167 0 4 (dk_at dksX7_qJoins_7 12 rfl rfl)
theorem dX7_qJoins_199 : decode cX7_qJoins 199 = .ok (.lconst 0, 1) := dk_9 (dk_at dksX7_qJoins_7 15 rfl rfl)
theorem dX7_qJoins_200 : decode cX7_qJoins 200 = .ok (.invokevirtual 536, 3) := dk_182 2 24 (dk_at dksX7_qJoins_7 16 rfl rfl)
theorem dX7_qJoins_203 : decode cX7_qJoins 203 = .ok (.goto 70, 3) := dk_167 0 70 (dk_at dksX7_qJoins_7 19 rfl rfl)
theorem dX7_qJoins_206 : decode cX7_qJoins 206 = .ok (.aload_n 0, 1) := dk_42 (dk_at dksX7_qJoins_7 22 rfl rfl)
theorem dX7_qJoins_207 : decode cX7_qJoins 207 = .ok (.lload 4, 2) := dk_22 4 (dk_at dksX7_qJoins_8 0 rfl rfl)
theorem dX7_qJoins_209 : decode cX7_qJoins 209 = .ok (.lload_n 2, 1) := dk_32 (dk_at dksX7_qJoins_8 2 rfl rfl)
theorem dX7_qJoins_210 : decode cX7_qJoins 210 = .ok (.lcmp, 1) := dk_148 (dk_at dksX7_qJoins_8 3 rfl rfl)
theorem dX7_qJoins_211 : decode cX7_qJoins 211 = .ok (.ifCond .le 7, 3) := dk_158 0 7 (dk_at dksX7_qJoins_8 4 rfl rfl)
theorem dX7_qJoins_214 : decode cX7_qJoins 214 = .ok (.lconst 1, 1) := dk_10 (dk_at dksX7_qJoins_8 7 rfl rfl)
theorem dX7_qJoins_215 : decode cX7_qJoins 215 = .ok (.goto 4, 3) := dk_167 0 4 (dk_at dksX7_qJoins_8 8 rfl rfl)
theorem dX7_qJoins_218 : decode cX7_qJoins 218 = .ok (.lconst 0, 1) := dk_9 (dk_at dksX7_qJoins_8 11 rfl rfl)
theorem dX7_qJoins_219 : decode cX7_qJoins 219 = .ok (.invokevirtual 536, 3) := dk_182 2 24 (dk_at dksX7_qJoins_8 12 rfl rfl)
theorem dX7_qJoins_222 : decode cX7_qJoins 222 = .ok (.goto 51, 3) := dk_167 0 51 (dk_at dksX7_qJoins_8 15 rfl rfl)
theorem dX7_qJoins_225 : decode cX7_qJoins 225 = .ok (.aload_n 0, 1) := dk_42 (dk_at dksX7_qJoins_8 18 rfl rfl)
theorem dX7_qJoins_226 : decode cX7_qJoins 226 = .ok (.lload 4, 2) := dk_22 4 (dk_at dksX7_qJoins_8 19 rfl rfl)
theorem dX7_qJoins_228 : decode cX7_qJoins 228 = .ok (.lload_n 2, 1) := dk_32 (dk_at dksX7_qJoins_8 21 rfl rfl)
theorem dX7_qJoins_229 : decode cX7_qJoins 229 = .ok (.lcmp, 1) := dk_148 (dk_at dksX7_qJoins_8 22 rfl rfl)
theorem dX7_qJoins_230 : decode cX7_qJoins 230 = .ok (.ifCond .ne 7, 3) := dk_154 0 7 (dk_at dksX7_qJoins_9 0 rfl rfl)
theorem dX7_qJoins_233 : decode cX7_qJoins 233 = .ok (.lconst 1, 1) := dk_10 (dk_at dksX7_qJoins_9 3 rfl rfl)
theorem dX7_qJoins_234 : decode cX7_qJoins 234 = .ok (.goto 4, 3) := dk_167 0 4 (dk_at dksX7_qJoins_9 4 rfl rfl)
theorem dX7_qJoins_237 : decode cX7_qJoins 237 = .ok (.lconst 0, 1) := dk_9 (dk_at dksX7_qJoins_9 7 rfl rfl)
theorem dX7_qJoins_238 : decode cX7_qJoins 238 = .ok (.invokevirtual 536, 3) := dk_182 2 24 (dk_at dksX7_qJoins_9 8 rfl rfl)
theorem dX7_qJoins_241 : decode cX7_qJoins 241 = .ok (.goto 32, 3) := dk_167 0 32 (dk_at dksX7_qJoins_9 11 rfl rfl)
theorem dX7_qJoins_244 : decode cX7_qJoins 244 = .ok (.aload_n 0, 1) := dk_42 (dk_at dksX7_qJoins_9 14 rfl rfl)
theorem dX7_qJoins_245 : decode cX7_qJoins 245 = .ok (.lload 4, 2) := dk_22 4 (dk_at dksX7_qJoins_9 15 rfl rfl)
theorem dX7_qJoins_247 : decode cX7_qJoins 247 = .ok (.lload_n 2, 1) := dk_32 (dk_at dksX7_qJoins_9 17 rfl rfl)
theorem dX7_qJoins_248 : decode cX7_qJoins 248 = .ok (.lmul, 1) := dk_105 (dk_at dksX7_qJoins_9 18 rfl rfl)
theorem dX7_qJoins_249 : decode cX7_qJoins 249 = .ok (.invokevirtual 536, 3) := dk_182 2 24 (dk_at dksX7_qJoins_9 19 rfl rfl)
theorem dX7_qJoins_252 : decode cX7_qJoins 252 = .ok (.goto 21, 3) := dk_167 0 21 (dk_at dksX7_qJoins_10 0 rfl rfl)
theorem dX7_qJoins_255 : decode cX7_qJoins 255 = .ok (.aload_n 0, 1) := dk_42 (dk_at dksX7_qJoins_10 3 rfl rfl)
theorem dX7_qJoins_256 : decode cX7_qJoins 256 = .ok (.lload 4, 2) := dk_22 4 (dk_at dksX7_qJoins_10 4 rfl rfl)
theorem dX7_qJoins_258 : decode cX7_qJoins 258 = .ok (.lload_n 2, 1) := dk_32 (dk_at dksX7_qJoins_10 6 rfl rfl)
theorem dX7_qJoins_259 : decode cX7_qJoins 259 = .ok (.ladd, 1) := dk_97 (dk_at dksX7_qJoins_10 7 rfl rfl)
theorem dX7_qJoins_260 : decode cX7_qJoins 260 = .ok (.lconst 0, 1) := dk_9 (dk_at dksX7_qJoins_10 8 rfl rfl)
theorem dX7_qJoins_261 : decode cX7_qJoins 261 = .ok (.lcmp, 1) := dk_148 (dk_at dksX7_qJoins_10 9 rfl rfl)
theorem dX7_qJoins_262 : decode cX7_qJoins 262 = .ok (.ifCond .le 7, 3) := dk_158 0 7 (dk_at dksX7_qJoins_10 10 rfl rfl)
theorem dX7_qJoins_265 : decode cX7_qJoins 265 = .ok (.lconst 1, 1) := dk_10 (dk_at dksX7_qJoins_10 13 rfl rfl)
theorem dX7_qJoins_266 : decode cX7_qJoins 266 = .ok (.goto 4, 3) := dk_167 0 4 (dk_at dksX7_qJoins_10 14 rfl rfl)
theorem dX7_qJoins_269 : decode cX7_qJoins 269 = .ok (.lconst 0, 1) := dk_9 (dk_at dksX7_qJoins_10 17 rfl rfl)
theorem dX7_qJoins_270 : decode cX7_qJoins 270 = .ok (.invokevirtual 536, 3) := dk_182 2 24 (dk_at dksX7_qJoins_10 18 rfl rfl)
theorem dX7_qJoins_273 : decode cX7_qJoins 273 = .ok (.return_, 1) := dk_177 (dk_at dksX7_qJoins_10 21 rfl rfl)
abbrev cX7_qClip : ByteArray := prog_25_method_135_code
def yX7_qClip : MethodName := ⟨RX7, "qClip", "(J)J"⟩
def dkwX7_qClip_1 : List UInt8 := [20, 2, 223, 167, 0, 4, 30, 173]
abbrev dktX7_qClip_1 : List UInt8 := dkwX7_qClip_1 ++ []
def dkwX7_qClip_0 : List UInt8 := [30, 20, 2, 221, 148, 158, 0, 9, 20, 2, 221, 167, 0, 18, 30, 20, 2, 223, 148, 156, 0, 9]
abbrev dktX7_qClip_0 : List UInt8 := dkwX7_qClip_0 ++ dktX7_qClip_1
theorem dksX7_qClip_0 : cX7_qClip.data.toList.drop 0 = dktX7_qClip_0 := by decide +kernel
theorem dksX7_qClip_1 : cX7_qClip.data.toList.drop 22 = dktX7_qClip_1 := dk_seg dksX7_qClip_0 22 rfl rfl
theorem dX7_qClip_0 : decode cX7_qClip 0 = .ok (.lload_n 0, 1) := dk_30 (dk_at dksX7_qClip_0 0 rfl rfl)
theorem dX7_qClip_1 : decode cX7_qClip 1 = .ok (.ldc2_w 733, 3) := dk_20 2 221 (dk_at dksX7_qClip_0 1 rfl rfl)
theorem dX7_qClip_4 : decode cX7_qClip 4 = .ok (.lcmp, 1) := dk_148 (dk_at dksX7_qClip_0 4 rfl rfl)
theorem dX7_qClip_5 : decode cX7_qClip 5 = .ok (.ifCond .le 9, 3) := dk_158 0 9 (dk_at dksX7_qClip_0 5 rfl rfl)
theorem dX7_qClip_8 : decode cX7_qClip 8 = .ok (.ldc2_w 733, 3) := dk_20 2 221 (dk_at dksX7_qClip_0 8 rfl rfl)
theorem dX7_qClip_11 : decode cX7_qClip 11 = .ok (.goto 18, 3) := dk_167 0 18 (dk_at dksX7_qClip_0 11 rfl rfl)
theorem dX7_qClip_14 : decode cX7_qClip 14 = .ok (.lload_n 0, 1) := dk_30 (dk_at dksX7_qClip_0 14 rfl rfl)
theorem dX7_qClip_15 : decode cX7_qClip 15 = .ok (.ldc2_w 735, 3) := dk_20 2 223 (dk_at dksX7_qClip_0 15 rfl rfl)
theorem dX7_qClip_18 : decode cX7_qClip 18 = .ok (.lcmp, 1) := dk_148 (dk_at dksX7_qClip_0 18 rfl rfl)
theorem dX7_qClip_19 : decode cX7_qClip 19 = .ok (.ifCond .ge 9, 3) := dk_156 0 9 (dk_at dksX7_qClip_0 19 rfl rfl)
theorem dX7_qClip_22 : decode cX7_qClip 22 = .ok (.ldc2_w 735, 3) := dk_20 2 223 (dk_at dksX7_qClip_1 0 rfl rfl)
theorem dX7_qClip_25 : decode cX7_qClip 25 = .ok (.goto 4, 3) := dk_167 0 4 (dk_at dksX7_qClip_1 3 rfl rfl)
theorem dX7_qClip_28 : decode cX7_qClip 28 = .ok (.lload_n 0, 1) := dk_30 (dk_at dksX7_qClip_1 6 rfl rfl)
theorem dX7_qClip_29 : decode cX7_qClip 29 = .ok (.lreturn, 1) := dk_173 (dk_at dksX7_qClip_1 7 rfl rfl)
abbrev cX7_qFloor : ByteArray := prog_25_method_136_code
def yX7_qFloor : MethodName := ⟨RX7, "qFloor", "(JJ)J"⟩
def dkwX7_qFloor_2 : List UInt8 := [10, 101, 167, 0, 5, 22, 4, 173]
abbrev dktX7_qFloor_2 : List UInt8 := dkwX7_qFloor_2 ++ []
def dkwX7_qFloor_1 : List UInt8 := [156, 0, 7, 4, 167, 0, 4, 3, 32, 9, 148, 156, 0, 7, 4, 167, 0, 4, 3, 159, 0, 10, 22, 4]
abbrev dktX7_qFloor_1 : List UInt8 := dkwX7_qFloor_1 ++ dktX7_qFloor_2
def dkwX7_qFloor_0 : List UInt8 := [32, 9, 148, 154, 0, 5, 9, 173, 30, 32, 109, 55, 4, 30, 32, 113, 9, 148, 153, 0, 35, 30, 9, 148]
abbrev dktX7_qFloor_0 : List UInt8 := dkwX7_qFloor_0 ++ dktX7_qFloor_1
theorem dksX7_qFloor_0 : cX7_qFloor.data.toList.drop 0 = dktX7_qFloor_0 := by decide +kernel
theorem dksX7_qFloor_1 : cX7_qFloor.data.toList.drop 24 = dktX7_qFloor_1 := dk_seg dksX7_qFloor_0 24 rfl rfl
theorem dksX7_qFloor_2 : cX7_qFloor.data.toList.drop 48 = dktX7_qFloor_2 := dk_seg dksX7_qFloor_1 24 rfl rfl
theorem dX7_qFloor_0 : decode cX7_qFloor 0 = .ok (.lload_n 2, 1) := dk_32 (dk_at dksX7_qFloor_0 0 rfl rfl)
theorem dX7_qFloor_1 : decode cX7_qFloor 1 = .ok (.lconst 0, 1) := dk_9 (dk_at dksX7_qFloor_0 1 rfl rfl)
theorem dX7_qFloor_2 : decode cX7_qFloor 2 = .ok (.lcmp, 1) := dk_148 (dk_at dksX7_qFloor_0 2 rfl rfl)
theorem dX7_qFloor_3 : decode cX7_qFloor 3 = .ok (.ifCond .ne 5, 3) := dk_154 0 5 (dk_at dksX7_qFloor_0 3 rfl rfl)
theorem dX7_qFloor_6 : decode cX7_qFloor 6 = .ok (.lconst 0, 1) := dk_9 (dk_at dksX7_qFloor_0 6 rfl rfl)
theorem dX7_qFloor_7 : decode cX7_qFloor 7 = .ok (.lreturn, 1) := dk_173 (dk_at dksX7_qFloor_0 7 rfl rfl)
theorem dX7_qFloor_8 : decode cX7_qFloor 8 = .ok (.lload_n 0, 1) := dk_30 (dk_at dksX7_qFloor_0 8 rfl rfl)
theorem dX7_qFloor_9 : decode cX7_qFloor 9 = .ok (.lload_n 2, 1) := dk_32 (dk_at dksX7_qFloor_0 9 rfl rfl)
theorem dX7_qFloor_10 : decode cX7_qFloor 10 = .ok (.ldiv, 1) := dk_109 (dk_at dksX7_qFloor_0 10 rfl rfl)
theorem dX7_qFloor_11 : decode cX7_qFloor 11 = .ok (.lstore 4, 2) := dk_55 4 (dk_at dksX7_qFloor_0 11 rfl rfl)
theorem dX7_qFloor_13 : decode cX7_qFloor 13 = .ok (.lload_n 0, 1) := dk_30 (dk_at dksX7_qFloor_0 13 rfl rfl)
theorem dX7_qFloor_14 : decode cX7_qFloor 14 = .ok (.lload_n 2, 1) := dk_32 (dk_at dksX7_qFloor_0 14 rfl rfl)
theorem dX7_qFloor_15 : decode cX7_qFloor 15 = .ok (.lrem, 1) := dk_113 (dk_at dksX7_qFloor_0 15 rfl rfl)
theorem dX7_qFloor_16 : decode cX7_qFloor 16 = .ok (.lconst 0, 1) := dk_9 (dk_at dksX7_qFloor_0 16 rfl rfl)
theorem dX7_qFloor_17 : decode cX7_qFloor 17 = .ok (.lcmp, 1) := dk_148 (dk_at dksX7_qFloor_0 17 rfl rfl)
theorem dX7_qFloor_18 : decode cX7_qFloor 18 = .ok (.ifCond .eq 35, 3) := dk_153 0 35 (dk_at dksX7_qFloor_0 18 rfl rfl)
theorem dX7_qFloor_21 : decode cX7_qFloor 21 = .ok (.lload_n 0, 1) := dk_30 (dk_at dksX7_qFloor_0 21 rfl rfl)
theorem dX7_qFloor_22 : decode cX7_qFloor 22 = .ok (.lconst 0, 1) := dk_9 (dk_at dksX7_qFloor_0 22 rfl rfl)
theorem dX7_qFloor_23 : decode cX7_qFloor 23 = .ok (.lcmp, 1) := dk_148 (dk_at dksX7_qFloor_0 23 rfl rfl)
theorem dX7_qFloor_24 : decode cX7_qFloor 24 = .ok (.ifCond .ge 7, 3) := dk_156 0 7 (dk_at dksX7_qFloor_1 0 rfl rfl)
theorem dX7_qFloor_27 : decode cX7_qFloor 27 = .ok (.iconst 1, 1) := dk_4 (dk_at dksX7_qFloor_1 3 rfl rfl)
theorem dX7_qFloor_28 : decode cX7_qFloor 28 = .ok (.goto 4, 3) := dk_167 0 4 (dk_at dksX7_qFloor_1 4 rfl rfl)
theorem dX7_qFloor_31 : decode cX7_qFloor 31 = .ok (.iconst 0, 1) := dk_3 (dk_at dksX7_qFloor_1 7 rfl rfl)
theorem dX7_qFloor_32 : decode cX7_qFloor 32 = .ok (.lload_n 2, 1) := dk_32 (dk_at dksX7_qFloor_1 8 rfl rfl)
theorem dX7_qFloor_33 : decode cX7_qFloor 33 = .ok (.lconst 0, 1) := dk_9 (dk_at dksX7_qFloor_1 9 rfl rfl)
theorem dX7_qFloor_34 : decode cX7_qFloor 34 = .ok (.lcmp, 1) := dk_148 (dk_at dksX7_qFloor_1 10 rfl rfl)
theorem dX7_qFloor_35 : decode cX7_qFloor 35 = .ok (.ifCond .ge 7, 3) := dk_156 0 7 (dk_at dksX7_qFloor_1 11 rfl rfl)
theorem dX7_qFloor_38 : decode cX7_qFloor 38 = .ok (.iconst 1, 1) := dk_4 (dk_at dksX7_qFloor_1 14 rfl rfl)
theorem dX7_qFloor_39 : decode cX7_qFloor 39 = .ok (.goto 4, 3) := dk_167 0 4 (dk_at dksX7_qFloor_1 15 rfl rfl)
theorem dX7_qFloor_42 : decode cX7_qFloor 42 = .ok (.iconst 0, 1) := dk_3 (dk_at dksX7_qFloor_1 18 rfl rfl)
theorem dX7_qFloor_43 : decode cX7_qFloor 43 = .ok (.if_icmp .eq 10, 3) := dk_159 0 10 (dk_at dksX7_qFloor_1 19 rfl rfl)
theorem dX7_qFloor_46 : decode cX7_qFloor 46 = .ok (.lload 4, 2) := dk_22 4 (dk_at dksX7_qFloor_1 22 rfl rfl)
theorem dX7_qFloor_48 : decode cX7_qFloor 48 = .ok (.lconst 1, 1) := dk_10 (dk_at dksX7_qFloor_2 0 rfl rfl)
theorem dX7_qFloor_49 : decode cX7_qFloor 49 = .ok (.lsub, 1) := dk_101 (dk_at dksX7_qFloor_2 1 rfl rfl)
theorem dX7_qFloor_50 : decode cX7_qFloor 50 = .ok (.goto 5, 3) := dk_167 0 5 (dk_at dksX7_qFloor_2 2 rfl rfl)
theorem dX7_qFloor_53 : decode cX7_qFloor 53 = .ok (.lload 4, 2) := dk_22 4 (dk_at dksX7_qFloor_2 5 rfl rfl)
theorem dX7_qFloor_55 : decode cX7_qFloor 55 = .ok (.lreturn, 1) := dk_173 (dk_at dksX7_qFloor_2 7 rfl rfl)
abbrev cX7_isKept : ByteArray := prog_25_method_67_code
def yX7_isKept : MethodName := ⟨RX7, "isKept", "()V"⟩
def dkwX7_isKept_6 : List UInt8 := [180, 0, 154, 27, 7, 96, 42, 180, 2, 38, 79, 177]
abbrev dktX7_isKept_6 : List UInt8 := dkwX7_isKept_6 ++ []
def dkwX7_isKept_5 : List UInt8 := [46, 112, 79, 42, 180, 0, 154, 27, 6, 96, 42, 180, 2, 12, 42, 180, 0, 127, 7, 46, 108, 79, 42]
abbrev dktX7_isKept_5 : List UInt8 := dkwX7_isKept_5 ++ dktX7_isKept_6
def dkwX7_isKept_4 : List UInt8 := [27, 4, 96, 42, 180, 2, 9, 79, 42, 180, 0, 154, 27, 5, 96, 42, 180, 2, 12, 42, 180, 0, 127, 7]
abbrev dktX7_isKept_4 : List UInt8 := dkwX7_isKept_4 ++ dktX7_isKept_5
def dkwX7_isKept_3 : List UInt8 := [16, 24, 46, 104, 96, 8, 100, 60, 42, 180, 0, 154, 27, 42, 180, 0, 154, 3, 46, 79, 42, 180, 0, 154]
abbrev dktX7_isKept_3 : List UInt8 := dkwX7_isKept_3 ++ dktX7_isKept_4
def dkwX7_isKept_2 : List UInt8 := [167, 255, 232, 167, 0, 14, 42, 180, 0, 154, 16, 24, 92, 46, 4, 96, 79, 16, 25, 8, 42, 180, 0, 154]
abbrev dktX7_isKept_2 : List UInt8 := dkwX7_isKept_2 ++ dktX7_isKept_3
def dkwX7_isKept_1 : List UInt8 := [17, 0, 220, 162, 0, 23, 42, 180, 0, 154, 27, 42, 180, 0, 154, 27, 8, 96, 46, 79, 132, 1, 1]
abbrev dktX7_isKept_1 : List UInt8 := dkwX7_isKept_1 ++ dktX7_isKept_2
def dkwX7_isKept_0 : List UInt8 := [42, 180, 2, 35, 153, 0, 4, 177, 42, 180, 0, 154, 16, 24, 46, 16, 40, 160, 0, 36, 16, 25, 60, 27]
abbrev dktX7_isKept_0 : List UInt8 := dkwX7_isKept_0 ++ dktX7_isKept_1
theorem dksX7_isKept_0 : cX7_isKept.data.toList.drop 0 = dktX7_isKept_0 := by decide +kernel
theorem dksX7_isKept_1 : cX7_isKept.data.toList.drop 24 = dktX7_isKept_1 := dk_seg dksX7_isKept_0 24 rfl rfl
theorem dksX7_isKept_2 : cX7_isKept.data.toList.drop 47 = dktX7_isKept_2 := dk_seg dksX7_isKept_1 23 rfl rfl
theorem dksX7_isKept_3 : cX7_isKept.data.toList.drop 71 = dktX7_isKept_3 := dk_seg dksX7_isKept_2 24 rfl rfl
theorem dksX7_isKept_4 : cX7_isKept.data.toList.drop 95 = dktX7_isKept_4 := dk_seg dksX7_isKept_3 24 rfl rfl
theorem dksX7_isKept_5 : cX7_isKept.data.toList.drop 119 = dktX7_isKept_5 := dk_seg dksX7_isKept_4 24 rfl rfl
theorem dksX7_isKept_6 : cX7_isKept.data.toList.drop 142 = dktX7_isKept_6 := dk_seg dksX7_isKept_5 23 rfl rfl
theorem dX7_isKept_0 : decode cX7_isKept 0 = .ok (.aload_n 0, 1) := dk_42 (dk_at dksX7_isKept_0 0 rfl rfl)
theorem dX7_isKept_1 : decode cX7_isKept 1 = .ok (.getfield 547, 3) := dk_180 2 35 (dk_at dksX7_isKept_0 1 rfl rfl)
theorem dX7_isKept_4 : decode cX7_isKept 4 = .ok (.ifCond .eq 4, 3) := dk_153 0 4 (dk_at dksX7_isKept_0 4 rfl rfl)
theorem dX7_isKept_7 : decode cX7_isKept 7 = .ok (.return_, 1) := dk_177 (dk_at dksX7_isKept_0 7 rfl rfl)
theorem dX7_isKept_8 : decode cX7_isKept 8 = .ok (.aload_n 0, 1) := dk_42 (dk_at dksX7_isKept_0 8 rfl rfl)
theorem dX7_isKept_9 : decode cX7_isKept 9 = .ok (.getfield 154, 3) := dk_180 0 154 (dk_at dksX7_isKept_0 9 rfl rfl)
theorem dX7_isKept_12 : decode cX7_isKept 12 = .ok (.bipush 24, 2) := dk_16 24 (dk_at dksX7_isKept_0 12 rfl rfl)
theorem dX7_isKept_14 : decode cX7_isKept 14 = .ok (.iaload, 1) := dk_46 (dk_at dksX7_isKept_0 14 rfl rfl)
theorem dX7_isKept_15 : decode cX7_isKept 15 = .ok (.bipush 40, 2) := dk_16 40 (dk_at dksX7_isKept_0 15 rfl rfl)
theorem dX7_isKept_17 : decode cX7_isKept 17 = .ok (.if_icmp .ne 36, 3) := dk_160 0 36 (dk_at dksX7_isKept_0 17 rfl rfl)
theorem dX7_isKept_20 : decode cX7_isKept 20 = .ok (.bipush 25, 2) := dk_16 25 (dk_at dksX7_isKept_0 20 rfl rfl)
theorem dX7_isKept_22 : decode cX7_isKept 22 = .ok (.istore_n 1, 1) := dk_60 (dk_at dksX7_isKept_0 22 rfl rfl)
theorem dX7_isKept_23 : decode cX7_isKept 23 = .ok (.iload_n 1, 1) := dk_27 (dk_at dksX7_isKept_0 23 rfl rfl)
theorem dX7_isKept_24 : decode cX7_isKept 24 = .ok (.sipush 220, 3) := dk_17 0 220 (dk_at dksX7_isKept_1 0 rfl rfl)
theorem dX7_isKept_27 : decode cX7_isKept 27 = .ok (.if_icmp .ge 23, 3) := dk_162 0 23 (dk_at dksX7_isKept_1 3 rfl rfl)
theorem dX7_isKept_30 : decode cX7_isKept 30 = .ok (.aload_n 0, 1) := dk_42 (dk_at dksX7_isKept_1 6 rfl rfl)
theorem dX7_isKept_31 : decode cX7_isKept 31 = .ok (.getfield 154, 3) := dk_180 0 154 (dk_at dksX7_isKept_1 7 rfl rfl)
theorem dX7_isKept_34 : decode cX7_isKept 34 = .ok (.iload_n 1, 1) := dk_27 (dk_at dksX7_isKept_1 10 rfl rfl)
theorem dX7_isKept_35 : decode cX7_isKept 35 = .ok (.aload_n 0, 1) := dk_42 (dk_at dksX7_isKept_1 11 rfl rfl)
theorem dX7_isKept_36 : decode cX7_isKept 36 = .ok (.getfield 154, 3) := dk_180 0 154 (dk_at dksX7_isKept_1 12 rfl rfl)
theorem dX7_isKept_39 : decode cX7_isKept 39 = .ok (.iload_n 1, 1) := dk_27 (dk_at dksX7_isKept_1 15 rfl rfl)
theorem dX7_isKept_40 : decode cX7_isKept 40 = .ok (.iconst 5, 1) := dk_8 (dk_at dksX7_isKept_1 16 rfl rfl)
theorem dX7_isKept_41 : decode cX7_isKept 41 = .ok (.iadd, 1) := dk_96 (dk_at dksX7_isKept_1 17 rfl rfl)
theorem dX7_isKept_42 : decode cX7_isKept 42 = .ok (.iaload, 1) := dk_46 (dk_at dksX7_isKept_1 18 rfl rfl)
theorem dX7_isKept_43 : decode cX7_isKept 43 = .ok (.iastore, 1) := dk_79 (dk_at dksX7_isKept_1 19 rfl rfl)
theorem dX7_isKept_44 : decode cX7_isKept 44 = .ok (.iinc 1 1, 3) := dk_132 1 1 (dk_at dksX7_isKept_1 20 rfl rfl)
theorem dX7_isKept_47 : decode cX7_isKept 47 = .ok (.goto (-24), 3) := dk_167 255 232 (dk_at dksX7_isKept_2 0 rfl rfl)
theorem dX7_isKept_50 : decode cX7_isKept 50 = .ok (.goto 14, 3) := dk_167 0 14 (dk_at dksX7_isKept_2 3 rfl rfl)
theorem dX7_isKept_53 : decode cX7_isKept 53 = .ok (.aload_n 0, 1) := dk_42 (dk_at dksX7_isKept_2 6 rfl rfl)
theorem dX7_isKept_54 : decode cX7_isKept 54 = .ok (.getfield 154, 3) := dk_180 0 154 (dk_at dksX7_isKept_2 7 rfl rfl)
theorem dX7_isKept_57 : decode cX7_isKept 57 = .ok (.bipush 24, 2) := dk_16 24 (dk_at dksX7_isKept_2 10 rfl rfl)
theorem dX7_isKept_59 : decode cX7_isKept 59 = .ok (.dup2, 1) := dk_92 (dk_at dksX7_isKept_2 12 rfl rfl)
theorem dX7_isKept_60 : decode cX7_isKept 60 = .ok (.iaload, 1) := dk_46 (dk_at dksX7_isKept_2 13 rfl rfl)
theorem dX7_isKept_61 : decode cX7_isKept 61 = .ok (.iconst 1, 1) := dk_4 (dk_at dksX7_isKept_2 14 rfl rfl)
theorem dX7_isKept_62 : decode cX7_isKept 62 = .ok (.iadd, 1) := dk_96 (dk_at dksX7_isKept_2 15 rfl rfl)
theorem dX7_isKept_63 : decode cX7_isKept 63 = .ok (.iastore, 1) := dk_79 (dk_at dksX7_isKept_2 16 rfl rfl)
theorem dX7_isKept_64 : decode cX7_isKept 64 = .ok (.bipush 25, 2) := dk_16 25 (dk_at dksX7_isKept_2 17 rfl rfl)
theorem dX7_isKept_66 : decode cX7_isKept 66 = .ok (.iconst 5, 1) := dk_8 (dk_at dksX7_isKept_2 19 rfl rfl)
theorem dX7_isKept_67 : decode cX7_isKept 67 = .ok (.aload_n 0, 1) := dk_42 (dk_at dksX7_isKept_2 20 rfl rfl)
theorem dX7_isKept_68 : decode cX7_isKept 68 = .ok (.getfield 154, 3) := dk_180 0 154 (dk_at dksX7_isKept_2 21 rfl rfl)
theorem dX7_isKept_71 : decode cX7_isKept 71 = .ok (.bipush 24, 2) := dk_16 24 (dk_at dksX7_isKept_3 0 rfl rfl)
theorem dX7_isKept_73 : decode cX7_isKept 73 = .ok (.iaload, 1) := dk_46 (dk_at dksX7_isKept_3 2 rfl rfl)
theorem dX7_isKept_74 : decode cX7_isKept 74 = .ok (.imul, 1) := dk_104 (dk_at dksX7_isKept_3 3 rfl rfl)
theorem dX7_isKept_75 : decode cX7_isKept 75 = .ok (.iadd, 1) := dk_96 (dk_at dksX7_isKept_3 4 rfl rfl)
theorem dX7_isKept_76 : decode cX7_isKept 76 = .ok (.iconst 5, 1) := dk_8 (dk_at dksX7_isKept_3 5 rfl rfl)
theorem dX7_isKept_77 : decode cX7_isKept 77 = .ok (.isub, 1) := dk_100 (dk_at dksX7_isKept_3 6 rfl rfl)
theorem dX7_isKept_78 : decode cX7_isKept 78 = .ok (.istore_n 1, 1) := dk_60 (dk_at dksX7_isKept_3 7 rfl rfl)
theorem dX7_isKept_79 : decode cX7_isKept 79 = .ok (.aload_n 0, 1) := dk_42 (dk_at dksX7_isKept_3 8 rfl rfl)
theorem dX7_isKept_80 : decode cX7_isKept 80 = .ok (.getfield 154, 3) := dk_180 0 154 (dk_at dksX7_isKept_3 9 rfl rfl)
theorem dX7_isKept_83 : decode cX7_isKept 83 = .ok (.iload_n 1, 1) := dk_27 (dk_at dksX7_isKept_3 12 rfl rfl)
theorem dX7_isKept_84 : decode cX7_isKept 84 = .ok (.aload_n 0, 1) := dk_42 (dk_at dksX7_isKept_3 13 rfl rfl)
theorem dX7_isKept_85 : decode cX7_isKept 85 = .ok (.getfield 154, 3) := dk_180 0 154 (dk_at dksX7_isKept_3 14 rfl rfl)
theorem dX7_isKept_88 : decode cX7_isKept 88 = .ok (.iconst 0, 1) := dk_3 (dk_at dksX7_isKept_3 17 rfl rfl)
theorem dX7_isKept_89 : decode cX7_isKept 89 = .ok (.iaload, 1) := dk_46 (dk_at dksX7_isKept_3 18 rfl rfl)
theorem dX7_isKept_90 : decode cX7_isKept 90 = .ok (.iastore, 1) := dk_79 (dk_at dksX7_isKept_3 19 rfl rfl)
theorem dX7_isKept_91 : decode cX7_isKept 91 = .ok (.aload_n 0, 1) := dk_42 (dk_at dksX7_isKept_3 20 rfl rfl)
theorem dX7_isKept_92 : decode cX7_isKept 92 = .ok (.getfield 154, 3) := dk_180 0 154 (dk_at dksX7_isKept_3 21 rfl rfl)
theorem dX7_isKept_95 : decode cX7_isKept 95 = .ok (.iload_n 1, 1) := dk_27 (dk_at dksX7_isKept_4 0 rfl rfl)
theorem dX7_isKept_96 : decode cX7_isKept 96 = .ok (.iconst 1, 1) := dk_4 (dk_at dksX7_isKept_4 1 rfl rfl)
theorem dX7_isKept_97 : decode cX7_isKept 97 = .ok (.iadd, 1) := dk_96 (dk_at dksX7_isKept_4 2 rfl rfl)
theorem dX7_isKept_98 : decode cX7_isKept 98 = .ok (.aload_n 0, 1) := dk_42 (dk_at dksX7_isKept_4 3 rfl rfl)
theorem dX7_isKept_99 : decode cX7_isKept 99 = .ok (.getfield 521, 3) := dk_180 2 9 (dk_at dksX7_isKept_4 4 rfl rfl)
theorem dX7_isKept_102 : decode cX7_isKept 102 = .ok (.iastore, 1) := dk_79 (dk_at dksX7_isKept_4 7 rfl rfl)
theorem dX7_isKept_103 : decode cX7_isKept 103 = .ok (.aload_n 0, 1) := dk_42 (dk_at dksX7_isKept_4 8 rfl rfl)
theorem dX7_isKept_104 : decode cX7_isKept 104 = .ok (.getfield 154, 3) := dk_180 0 154 (dk_at dksX7_isKept_4 9 rfl rfl)
theorem dX7_isKept_107 : decode cX7_isKept 107 = .ok (.iload_n 1, 1) := dk_27 (dk_at dksX7_isKept_4 12 rfl rfl)
theorem dX7_isKept_108 : decode cX7_isKept 108 = .ok (.iconst 2, 1) := dk_5 (dk_at dksX7_isKept_4 13 rfl rfl)
theorem dX7_isKept_109 : decode cX7_isKept 109 = .ok (.iadd, 1) := dk_96 (dk_at dksX7_isKept_4 14 rfl rfl)
theorem dX7_isKept_110 : decode cX7_isKept 110 = .ok (.aload_n 0, 1) := dk_42 (dk_at dksX7_isKept_4 15 rfl rfl)
theorem dX7_isKept_111 : decode cX7_isKept 111 = .ok (.getfield 524, 3) := dk_180 2 12 (dk_at dksX7_isKept_4 16 rfl rfl)
theorem dX7_isKept_114 : decode cX7_isKept 114 = .ok (.aload_n 0, 1) := dk_42 (dk_at dksX7_isKept_4 19 rfl rfl)
theorem dX7_isKept_115 : decode cX7_isKept 115 = .ok (.getfield 127, 3) := dk_180 0 127 (dk_at dksX7_isKept_4 20 rfl rfl)
theorem dX7_isKept_118 : decode cX7_isKept 118 = .ok (.iconst 4, 1) := dk_7 (dk_at dksX7_isKept_4 23 rfl rfl)
theorem dX7_isKept_119 : decode cX7_isKept 119 = .ok (.iaload, 1) := dk_46 (dk_at dksX7_isKept_5 0 rfl rfl)
theorem dX7_isKept_120 : decode cX7_isKept 120 = .ok (.irem, 1) := dk_112 (dk_at dksX7_isKept_5 1 rfl rfl)
theorem dX7_isKept_121 : decode cX7_isKept 121 = .ok (.iastore, 1) := dk_79 (dk_at dksX7_isKept_5 2 rfl rfl)
theorem dX7_isKept_122 : decode cX7_isKept 122 = .ok (.aload_n 0, 1) := dk_42 (dk_at dksX7_isKept_5 3 rfl rfl)
theorem dX7_isKept_123 : decode cX7_isKept 123 = .ok (.getfield 154, 3) := dk_180 0 154 (dk_at dksX7_isKept_5 4 rfl rfl)
theorem dX7_isKept_126 : decode cX7_isKept 126 = .ok (.iload_n 1, 1) := dk_27 (dk_at dksX7_isKept_5 7 rfl rfl)
theorem dX7_isKept_127 : decode cX7_isKept 127 = .ok (.iconst 3, 1) := dk_6 (dk_at dksX7_isKept_5 8 rfl rfl)
theorem dX7_isKept_128 : decode cX7_isKept 128 = .ok (.iadd, 1) := dk_96 (dk_at dksX7_isKept_5 9 rfl rfl)
theorem dX7_isKept_129 : decode cX7_isKept 129 = .ok (.aload_n 0, 1) := dk_42 (dk_at dksX7_isKept_5 10 rfl rfl)
theorem dX7_isKept_130 : decode cX7_isKept 130 = .ok (.getfield 524, 3) := dk_180 2 12 (dk_at dksX7_isKept_5 11 rfl rfl)
theorem dX7_isKept_133 : decode cX7_isKept 133 = .ok (.aload_n 0, 1) := dk_42 (dk_at dksX7_isKept_5 14 rfl rfl)
theorem dX7_isKept_134 : decode cX7_isKept 134 = .ok (.getfield 127, 3) := dk_180 0 127 (dk_at dksX7_isKept_5 15 rfl rfl)
theorem dX7_isKept_137 : decode cX7_isKept 137 = .ok (.iconst 4, 1) := dk_7 (dk_at dksX7_isKept_5 18 rfl rfl)
theorem dX7_isKept_138 : decode cX7_isKept 138 = .ok (.iaload, 1) := dk_46 (dk_at dksX7_isKept_5 19 rfl rfl)
theorem dX7_isKept_139 : decode cX7_isKept 139 = .ok (.idiv, 1) := dk_108 (dk_at dksX7_isKept_5 20 rfl rfl)
theorem dX7_isKept_140 : decode cX7_isKept 140 = .ok (.iastore, 1) := dk_79 (dk_at dksX7_isKept_5 21 rfl rfl)
theorem dX7_isKept_141 : decode cX7_isKept 141 = .ok (.aload_n 0, 1) := dk_42 (dk_at dksX7_isKept_5 22 rfl rfl)
theorem dX7_isKept_142 : decode cX7_isKept 142 = .ok (.getfield 154, 3) := dk_180 0 154 (dk_at dksX7_isKept_6 0 rfl rfl)
theorem dX7_isKept_145 : decode cX7_isKept 145 = .ok (.iload_n 1, 1) := dk_27 (dk_at dksX7_isKept_6 3 rfl rfl)
theorem dX7_isKept_146 : decode cX7_isKept 146 = .ok (.iconst 4, 1) := dk_7 (dk_at dksX7_isKept_6 4 rfl rfl)
theorem dX7_isKept_147 : decode cX7_isKept 147 = .ok (.iadd, 1) := dk_96 (dk_at dksX7_isKept_6 5 rfl rfl)
theorem dX7_isKept_148 : decode cX7_isKept 148 = .ok (.aload_n 0, 1) := dk_42 (dk_at dksX7_isKept_6 6 rfl rfl)
theorem dX7_isKept_149 : decode cX7_isKept 149 = .ok (.getfield 550, 3) := dk_180 2 38 (dk_at dksX7_isKept_6 7 rfl rfl)
theorem dX7_isKept_152 : decode cX7_isKept 152 = .ok (.iastore, 1) := dk_79 (dk_at dksX7_isKept_6 10 rfl rfl)
theorem dX7_isKept_153 : decode cX7_isKept 153 = .ok (.return_, 1) := dk_177 (dk_at dksX7_isKept_6 11 rfl rfl)
abbrev cX7_takesBack : ByteArray := prog_25_method_75_code
def yX7_takesBack : MethodName := ⟨RX7, "takesBack", "()V"⟩
def dkwX7_takesBack_0 : List UInt8 := [42, 182, 2, 69, 42, 3, 181, 2, 35, 177]
abbrev dktX7_takesBack_0 : List UInt8 := dkwX7_takesBack_0 ++ []
theorem dksX7_takesBack_0 : cX7_takesBack.data.toList.drop 0 = dktX7_takesBack_0 := by decide +kernel
theorem dX7_takesBack_0 : decode cX7_takesBack 0 = .ok (.aload_n 0, 1) := dk_42 (dk_at dksX7_takesBack_0 0 rfl rfl)
theorem dX7_takesBack_1 : decode cX7_takesBack 1 = .ok (.invokevirtual 581, 3) := dk_182 2 69 (dk_at dksX7_takesBack_0 1 rfl rfl)
theorem dX7_takesBack_4 : decode cX7_takesBack 4 = .ok (.aload_n 0, 1) := dk_42 (dk_at dksX7_takesBack_0 4 rfl rfl)
theorem dX7_takesBack_5 : decode cX7_takesBack 5 = .ok (.iconst 0, 1) := dk_3 (dk_at dksX7_takesBack_0 5 rfl rfl)
theorem dX7_takesBack_6 : decode cX7_takesBack 6 = .ok (.putfield 547, 3) := dk_181 2 35 (dk_at dksX7_takesBack_0 6 rfl rfl)
theorem dX7_takesBack_9 : decode cX7_takesBack 9 = .ok (.return_, 1) := dk_177 (dk_at dksX7_takesBack_0 9 rfl rfl)
abbrev cX7_triesAnew : ByteArray := prog_25_method_74_code
def yX7_triesAnew : MethodName := ⟨RX7, "triesAnew", "()V"⟩
def dkwX7_triesAnew_1 : List UInt8 := [167, 255, 235, 177]
abbrev dktX7_triesAnew_1 : List UInt8 := dkwX7_triesAnew_1 ++ []
def dkwX7_triesAnew_0 : List UInt8 := [3, 60, 27, 16, 24, 162, 0, 21, 42, 180, 0, 154, 27, 42, 180, 0, 157, 27, 46, 79, 132, 1, 1]
abbrev dktX7_triesAnew_0 : List UInt8 := dkwX7_triesAnew_0 ++ dktX7_triesAnew_1
theorem dksX7_triesAnew_0 : cX7_triesAnew.data.toList.drop 0 = dktX7_triesAnew_0 := by decide +kernel
theorem dksX7_triesAnew_1 : cX7_triesAnew.data.toList.drop 23 = dktX7_triesAnew_1 := dk_seg dksX7_triesAnew_0 23 rfl rfl
theorem dX7_triesAnew_0 : decode cX7_triesAnew 0 = .ok (.iconst 0, 1) := dk_3 (dk_at dksX7_triesAnew_0 0 rfl rfl)
theorem dX7_triesAnew_1 : decode cX7_triesAnew 1 = .ok (.istore_n 1, 1) := dk_60 (dk_at dksX7_triesAnew_0 1 rfl rfl)
theorem dX7_triesAnew_2 : decode cX7_triesAnew 2 = .ok (.iload_n 1, 1) := dk_27 (dk_at dksX7_triesAnew_0 2 rfl rfl)
theorem dX7_triesAnew_3 : decode cX7_triesAnew 3 = .ok (.bipush 24, 2) := dk_16 24 (dk_at dksX7_triesAnew_0 3 rfl rfl)
theorem dX7_triesAnew_5 : decode cX7_triesAnew 5 = .ok (.if_icmp .ge 21, 3) := dk_162 0 21 (dk_at dksX7_triesAnew_0 5 rfl rfl)
theorem dX7_triesAnew_8 : decode cX7_triesAnew 8 = .ok (.aload_n 0, 1) := dk_42 (dk_at dksX7_triesAnew_0 8 rfl rfl)
theorem dX7_triesAnew_9 : decode cX7_triesAnew 9 = .ok (.getfield 154, 3) := dk_180 0 154 (dk_at dksX7_triesAnew_0 9 rfl rfl)
theorem dX7_triesAnew_12 : decode cX7_triesAnew 12 = .ok (.iload_n 1, 1) := dk_27 (dk_at dksX7_triesAnew_0 12 rfl rfl)
theorem dX7_triesAnew_13 : decode cX7_triesAnew 13 = .ok (.aload_n 0, 1) := dk_42 (dk_at dksX7_triesAnew_0 13 rfl rfl)
theorem dX7_triesAnew_14 : decode cX7_triesAnew 14 = .ok (.getfield 157, 3) := dk_180 0 157 (dk_at dksX7_triesAnew_0 14 rfl rfl)
theorem dX7_triesAnew_17 : decode cX7_triesAnew 17 = .ok (.iload_n 1, 1) := dk_27 (dk_at dksX7_triesAnew_0 17 rfl rfl)
theorem dX7_triesAnew_18 : decode cX7_triesAnew 18 = .ok (.iaload, 1) := dk_46 (dk_at dksX7_triesAnew_0 18 rfl rfl)
theorem dX7_triesAnew_19 : decode cX7_triesAnew 19 = .ok (.iastore, 1) := dk_79 (dk_at dksX7_triesAnew_0 19 rfl rfl)
theorem dX7_triesAnew_20 : decode cX7_triesAnew 20 = .ok (.iinc 1 1, 3) := dk_132 1 1 (dk_at dksX7_triesAnew_0 20 rfl rfl)
theorem dX7_triesAnew_23 : decode cX7_triesAnew 23 = .ok (.goto (-21), 3) := dk_167 255 235 (dk_at dksX7_triesAnew_1 0 rfl rfl)
theorem dX7_triesAnew_26 : decode cX7_triesAnew 26 = .ok (.return_, 1) := dk_177 (dk_at dksX7_triesAnew_1 3 rfl rfl)
abbrev cX7_crop : ByteArray := prog_25_method_94_code
def yX7_crop : MethodName := ⟨RX7, "crop", "(II)I"⟩
def dkwX7_crop_1 : List UInt8 := [182, 2, 109, 42, 28, 182, 2, 112, 42, 180, 0, 154, 16, 18, 27, 96, 46, 62, 42, 182, 2, 115, 29, 172]
abbrev dktX7_crop_1 : List UInt8 := dkwX7_crop_1 ++ []
def dkwX7_crop_0 : List UInt8 := [42, 27, 182, 2, 90, 153, 0, 14, 42, 28, 3, 16, 20, 182, 2, 106, 154, 0, 5, 2, 172, 42]
abbrev dktX7_crop_0 : List UInt8 := dkwX7_crop_0 ++ dktX7_crop_1
theorem dksX7_crop_0 : cX7_crop.data.toList.drop 0 = dktX7_crop_0 := by decide +kernel
theorem dksX7_crop_1 : cX7_crop.data.toList.drop 22 = dktX7_crop_1 := dk_seg dksX7_crop_0 22 rfl rfl
theorem dX7_crop_0 : decode cX7_crop 0 = .ok (.aload_n 0, 1) := dk_42 (dk_at dksX7_crop_0 0 rfl rfl)
theorem dX7_crop_1 : decode cX7_crop 1 = .ok (.iload_n 1, 1) := dk_27 (dk_at dksX7_crop_0 1 rfl rfl)
theorem dX7_crop_2 : decode cX7_crop 2 = .ok (.invokevirtual 602, 3) := dk_182 2 90 (dk_at dksX7_crop_0 2 rfl rfl)
theorem dX7_crop_5 : decode cX7_crop 5 = .ok (.ifCond .eq 14, 3) := dk_153 0 14 (dk_at dksX7_crop_0 5 rfl rfl)
theorem dX7_crop_8 : decode cX7_crop 8 = .ok (.aload_n 0, 1) := dk_42 (dk_at dksX7_crop_0 8 rfl rfl)
theorem dX7_crop_9 : decode cX7_crop 9 = .ok (.iload_n 2, 1) := dk_28 (dk_at dksX7_crop_0 9 rfl rfl)
theorem dX7_crop_10 : decode cX7_crop 10 = .ok (.iconst 0, 1) := dk_3 (dk_at dksX7_crop_0 10 rfl rfl)
theorem dX7_crop_11 : decode cX7_crop 11 = .ok (.bipush 20, 2) := dk_16 20 (dk_at dksX7_crop_0 11 rfl rfl)
theorem dX7_crop_13 : decode cX7_crop 13 = .ok (.invokevirtual 618, 3) := dk_182 2 106 (dk_at dksX7_crop_0 13 rfl rfl)
theorem dX7_crop_16 : decode cX7_crop 16 = .ok (.ifCond .ne 5, 3) := dk_154 0 5 (dk_at dksX7_crop_0 16 rfl rfl)
theorem dX7_crop_19 : decode cX7_crop 19 = .ok (.iconst (-1), 1) := dk_2 (dk_at dksX7_crop_0 19 rfl rfl)
theorem dX7_crop_20 : decode cX7_crop 20 = .ok (.ireturn, 1) := dk_172 (dk_at dksX7_crop_0 20 rfl rfl)
theorem dX7_crop_21 : decode cX7_crop 21 = .ok (.aload_n 0, 1) := dk_42 (dk_at dksX7_crop_0 21 rfl rfl)
theorem dX7_crop_22 : decode cX7_crop 22 = .ok (.invokevirtual 621, 3) := dk_182 2 109 (dk_at dksX7_crop_1 0 rfl rfl)
theorem dX7_crop_25 : decode cX7_crop 25 = .ok (.aload_n 0, 1) := dk_42 (dk_at dksX7_crop_1 3 rfl rfl)
theorem dX7_crop_26 : decode cX7_crop 26 = .ok (.iload_n 2, 1) := dk_28 (dk_at dksX7_crop_1 4 rfl rfl)
theorem dX7_crop_27 : decode cX7_crop 27 = .ok (.invokevirtual 624, 3) := dk_182 2 112 (dk_at dksX7_crop_1 5 rfl rfl)
theorem dX7_crop_30 : decode cX7_crop 30 = .ok (.aload_n 0, 1) := dk_42 (dk_at dksX7_crop_1 8 rfl rfl)
theorem dX7_crop_31 : decode cX7_crop 31 = .ok (.getfield 154, 3) := dk_180 0 154 (dk_at dksX7_crop_1 9 rfl rfl)
theorem dX7_crop_34 : decode cX7_crop 34 = .ok (.bipush 18, 2) := dk_16 18 (dk_at dksX7_crop_1 12 rfl rfl)
theorem dX7_crop_36 : decode cX7_crop 36 = .ok (.iload_n 1, 1) := dk_27 (dk_at dksX7_crop_1 14 rfl rfl)
theorem dX7_crop_37 : decode cX7_crop 37 = .ok (.iadd, 1) := dk_96 (dk_at dksX7_crop_1 15 rfl rfl)
theorem dX7_crop_38 : decode cX7_crop 38 = .ok (.iaload, 1) := dk_46 (dk_at dksX7_crop_1 16 rfl rfl)
theorem dX7_crop_39 : decode cX7_crop 39 = .ok (.istore_n 3, 1) := dk_62 (dk_at dksX7_crop_1 17 rfl rfl)
theorem dX7_crop_40 : decode cX7_crop 40 = .ok (.aload_n 0, 1) := dk_42 (dk_at dksX7_crop_1 18 rfl rfl)
theorem dX7_crop_41 : decode cX7_crop 41 = .ok (.invokevirtual 627, 3) := dk_182 2 115 (dk_at dksX7_crop_1 19 rfl rfl)
theorem dX7_crop_44 : decode cX7_crop 44 = .ok (.iload_n 3, 1) := dk_29 (dk_at dksX7_crop_1 22 rfl rfl)
theorem dX7_crop_45 : decode cX7_crop 45 = .ok (.ireturn, 1) := dk_172 (dk_at dksX7_crop_1 23 rfl rfl)
abbrev cX7_spare : ByteArray := prog_25_method_95_code
def yX7_spare : MethodName := ⟨RX7, "spare", "(III)I"⟩
def dkwX7_spare_5 : List UInt8 := [29, 154, 0, 8, 21, 4, 167, 0, 5, 21, 5, 172]
abbrev dktX7_spare_5 : List UInt8 := dkwX7_spare_5 ++ []
def dkwX7_spare_4 : List UInt8 := [163, 0, 6, 167, 0, 11, 21, 7, 54, 4, 21, 8, 54, 5, 132, 7, 1, 167, 255, 196, 42, 182, 2, 115]
abbrev dktX7_spare_4 : List UInt8 := dkwX7_spare_4 ++ dktX7_spare_5
def dkwX7_spare_3 : List UInt8 := [182, 2, 112, 42, 180, 0, 154, 16, 18, 27, 96, 46, 54, 8, 42, 182, 2, 69, 21, 8, 21, 5]
abbrev dktX7_spare_3 : List UInt8 := dkwX7_spare_3 ++ dktX7_spare_4
def dkwX7_spare_2 : List UInt8 := [3, 54, 7, 21, 7, 21, 6, 162, 0, 59, 42, 21, 7, 182, 2, 95, 42, 182, 2, 66, 42, 28, 4, 100]
abbrev dktX7_spare_2 : List UInt8 := dkwX7_spare_2 ++ dktX7_spare_3
def dkwX7_spare_1 : List UInt8 := [184, 1, 65, 154, 0, 5, 2, 172, 2, 54, 4, 2, 54, 5, 42, 182, 2, 118, 54, 6, 42, 182, 2, 109]
abbrev dktX7_spare_1 : List UInt8 := dkwX7_spare_1 ++ dktX7_spare_2
def dkwX7_spare_0 : List UInt8 := [42, 27, 182, 2, 90, 153, 0, 24, 42, 28, 4, 16, 6, 182, 2, 106, 153, 0, 13, 29, 133, 9, 10]
abbrev dktX7_spare_0 : List UInt8 := dkwX7_spare_0 ++ dktX7_spare_1
theorem dksX7_spare_0 : cX7_spare.data.toList.drop 0 = dktX7_spare_0 := by decide +kernel
theorem dksX7_spare_1 : cX7_spare.data.toList.drop 23 = dktX7_spare_1 := dk_seg dksX7_spare_0 23 rfl rfl
theorem dksX7_spare_2 : cX7_spare.data.toList.drop 47 = dktX7_spare_2 := dk_seg dksX7_spare_1 24 rfl rfl
theorem dksX7_spare_3 : cX7_spare.data.toList.drop 71 = dktX7_spare_3 := dk_seg dksX7_spare_2 24 rfl rfl
theorem dksX7_spare_4 : cX7_spare.data.toList.drop 93 = dktX7_spare_4 := dk_seg dksX7_spare_3 22 rfl rfl
theorem dksX7_spare_5 : cX7_spare.data.toList.drop 117 = dktX7_spare_5 := dk_seg dksX7_spare_4 24 rfl rfl
theorem dX7_spare_0 : decode cX7_spare 0 = .ok (.aload_n 0, 1) := dk_42 (dk_at dksX7_spare_0 0 rfl rfl)
theorem dX7_spare_1 : decode cX7_spare 1 = .ok (.iload_n 1, 1) := dk_27 (dk_at dksX7_spare_0 1 rfl rfl)
theorem dX7_spare_2 : decode cX7_spare 2 = .ok (.invokevirtual 602, 3) := dk_182 2 90 (dk_at dksX7_spare_0 2 rfl rfl)
theorem dX7_spare_5 : decode cX7_spare 5 = .ok (.ifCond .eq 24, 3) := dk_153 0 24 (dk_at dksX7_spare_0 5 rfl rfl)
theorem dX7_spare_8 : decode cX7_spare 8 = .ok (.aload_n 0, 1) := dk_42 (dk_at dksX7_spare_0 8 rfl rfl)
theorem dX7_spare_9 : decode cX7_spare 9 = .ok (.iload_n 2, 1) := dk_28 (dk_at dksX7_spare_0 9 rfl rfl)
theorem dX7_spare_10 : decode cX7_spare 10 = .ok (.iconst 1, 1) := dk_4 (dk_at dksX7_spare_0 10 rfl rfl)
theorem dX7_spare_11 : decode cX7_spare 11 = .ok (.bipush 6, 2) := dk_16 6 (dk_at dksX7_spare_0 11 rfl rfl)
theorem dX7_spare_13 : decode cX7_spare 13 = .ok (.invokevirtual 618, 3) := dk_182 2 106 (dk_at dksX7_spare_0 13 rfl rfl)
theorem dX7_spare_16 : decode cX7_spare 16 = .ok (.ifCond .eq 13, 3) := dk_153 0 13 (dk_at dksX7_spare_0 16 rfl rfl)
theorem dX7_spare_19 : decode cX7_spare 19 = .ok (.iload_n 3, 1) := dk_29 (dk_at dksX7_spare_0 19 rfl rfl)
theorem dX7_spare_20 : decode cX7_spare 20 = .ok (.i2l, 1) := dk_133 (dk_at dksX7_spare_0 20 rfl rfl)
theorem dX7_spare_21 : decode cX7_spare 21 = .ok (.lconst 0, 1) := dk_9 (dk_at dksX7_spare_0 21 rfl rfl)
theorem dX7_spare_22 : decode cX7_spare 22 = .ok (.lconst 1, 1) := dk_10 (dk_at dksX7_spare_0 22 rfl rfl)
theorem dX7_spare_23 : decode cX7_spare 23 = .ok (.invokestatic 321, 3) := dk_184 1 65 (dk_at dksX7_spare_1 0 rfl rfl)
theorem dX7_spare_26 : decode cX7_spare 26 = .ok (.ifCond .ne 5, 3) := dk_154 0 5 (dk_at dksX7_spare_1 3 rfl rfl)
theorem dX7_spare_29 : decode cX7_spare 29 = .ok (.iconst (-1), 1) := dk_2 (dk_at dksX7_spare_1 6 rfl rfl)
theorem dX7_spare_30 : decode cX7_spare 30 = .ok (.ireturn, 1) := dk_172 (dk_at dksX7_spare_1 7 rfl rfl)
theorem dX7_spare_31 : decode cX7_spare 31 = .ok (.iconst (-1), 1) := dk_2 (dk_at dksX7_spare_1 8 rfl rfl)
theorem dX7_spare_32 : decode cX7_spare 32 = .ok (.istore 4, 2) := dk_54 4 (dk_at dksX7_spare_1 9 rfl rfl)
theorem dX7_spare_34 : decode cX7_spare 34 = .ok (.iconst (-1), 1) := dk_2 (dk_at dksX7_spare_1 11 rfl rfl)
theorem dX7_spare_35 : decode cX7_spare 35 = .ok (.istore 5, 2) := dk_54 5 (dk_at dksX7_spare_1 12 rfl rfl)
theorem dX7_spare_37 : decode cX7_spare 37 = .ok (.aload_n 0, 1) := dk_42 (dk_at dksX7_spare_1 14 rfl rfl)
theorem dX7_spare_38 : decode cX7_spare 38 = .ok (.invokevirtual 630, 3) := dk_182 2 118 (dk_at dksX7_spare_1 15 rfl rfl)
theorem dX7_spare_41 : decode cX7_spare 41 = .ok (.istore 6, 2) := dk_54 6 (dk_at dksX7_spare_1 18 rfl rfl)
theorem dX7_spare_43 : decode cX7_spare 43 = .ok (.aload_n 0, 1) := dk_42 (dk_at dksX7_spare_1 20 rfl rfl)
theorem dX7_spare_44 : decode cX7_spare 44 = .ok (.invokevirtual 621, 3) := dk_182 2 109 (dk_at dksX7_spare_1 21 rfl rfl)
theorem dX7_spare_47 : decode cX7_spare 47 = .ok (.iconst 0, 1) := dk_3 (dk_at dksX7_spare_2 0 rfl rfl)
theorem dX7_spare_48 : decode cX7_spare 48 = .ok (.istore 7, 2) := dk_54 7 (dk_at dksX7_spare_2 1 rfl rfl)
theorem dX7_spare_50 : decode cX7_spare 50 = .ok (.iload 7, 2) := dk_21 7 (dk_at dksX7_spare_2 3 rfl rfl)
theorem dX7_spare_52 : decode cX7_spare 52 = .ok (.iload 6, 2) := dk_21 6 (dk_at dksX7_spare_2 5 rfl rfl)
theorem dX7_spare_54 : decode cX7_spare 54 = .ok (.if_icmp .ge 59, 3) := dk_162 0 59 (dk_at dksX7_spare_2 7 rfl rfl)
theorem dX7_spare_57 : decode cX7_spare 57 = .ok (.aload_n 0, 1) := dk_42 (dk_at dksX7_spare_2 10 rfl rfl)
theorem dX7_spare_58 : decode cX7_spare 58 = .ok (.iload 7, 2) := dk_21 7 (dk_at dksX7_spare_2 11 rfl rfl)
theorem dX7_spare_60 : decode cX7_spare 60 = .ok (.invokevirtual 607, 3) := dk_182 2 95 (dk_at dksX7_spare_2 13 rfl rfl)
theorem dX7_spare_63 : decode cX7_spare 63 = .ok (.aload_n 0, 1) := dk_42 (dk_at dksX7_spare_2 16 rfl rfl)
theorem dX7_spare_64 : decode cX7_spare 64 = .ok (.invokevirtual 578, 3) := dk_182 2 66 (dk_at dksX7_spare_2 17 rfl rfl)
theorem dX7_spare_67 : decode cX7_spare 67 = .ok (.aload_n 0, 1) := dk_42 (dk_at dksX7_spare_2 20 rfl rfl)
theorem dX7_spare_68 : decode cX7_spare 68 = .ok (.iload_n 2, 1) := dk_28 (dk_at dksX7_spare_2 21 rfl rfl)
theorem dX7_spare_69 : decode cX7_spare 69 = .ok (.iconst 1, 1) := dk_4 (dk_at dksX7_spare_2 22 rfl rfl)
theorem dX7_spare_70 : decode cX7_spare 70 = .ok (.isub, 1) := dk_100 (dk_at dksX7_spare_2 23 rfl rfl)
theorem dX7_spare_71 : decode cX7_spare 71 = .ok (.invokevirtual 624, 3) := dk_182 2 112 (dk_at dksX7_spare_3 0 rfl rfl)
theorem dX7_spare_74 : decode cX7_spare 74 = .ok (.aload_n 0, 1) := dk_42 (dk_at dksX7_spare_3 3 rfl rfl)
theorem dX7_spare_75 : decode cX7_spare 75 = .ok (.getfield 154, 3) := dk_180 0 154 (dk_at dksX7_spare_3 4 rfl rfl)
theorem dX7_spare_78 : decode cX7_spare 78 = .ok (.bipush 18, 2) := dk_16 18 (dk_at dksX7_spare_3 7 rfl rfl)
theorem dX7_spare_80 : decode cX7_spare 80 = .ok (.iload_n 1, 1) := dk_27 (dk_at dksX7_spare_3 9 rfl rfl)
theorem dX7_spare_81 : decode cX7_spare 81 = .ok (.iadd, 1) := dk_96 (dk_at dksX7_spare_3 10 rfl rfl)
theorem dX7_spare_82 : decode cX7_spare 82 = .ok (.iaload, 1) := dk_46 (dk_at dksX7_spare_3 11 rfl rfl)
theorem dX7_spare_83 : decode cX7_spare 83 = .ok (.istore 8, 2) := dk_54 8 (dk_at dksX7_spare_3 12 rfl rfl)
theorem dX7_spare_85 : decode cX7_spare 85 = .ok (.aload_n 0, 1) := dk_42 (dk_at dksX7_spare_3 14 rfl rfl)
theorem dX7_spare_86 : decode cX7_spare 86 = .ok (.invokevirtual 581, 3) := dk_182 2 69 (dk_at dksX7_spare_3 15 rfl rfl)
theorem dX7_spare_89 : decode cX7_spare 89 = .ok (.iload 8, 2) := dk_21 8 (dk_at dksX7_spare_3 18 rfl rfl)
theorem dX7_spare_91 : decode cX7_spare 91 = .ok (.iload 5, 2) := dk_21 5 (dk_at dksX7_spare_3 20 rfl rfl)
theorem dX7_spare_93 : decode cX7_spare 93 = .ok (.if_icmp .gt 6, 3) := dk_163 0 6 (dk_at dksX7_spare_4 0 rfl rfl)
theorem dX7_spare_96 : decode cX7_spare 96 = .ok (.goto 11, 3) := dk_167 0 11 (dk_at dksX7_spare_4 3 rfl rfl)
theorem dX7_spare_99 : decode cX7_spare 99 = .ok (.iload 7, 2) := dk_21 7 (dk_at dksX7_spare_4 6 rfl rfl)
theorem dX7_spare_101 : decode cX7_spare 101 = .ok (.istore 4, 2) := dk_54 4 (dk_at dksX7_spare_4 8 rfl rfl)
theorem dX7_spare_103 : decode cX7_spare 103 = .ok (.iload 8, 2) := dk_21 8 (dk_at dksX7_spare_4 10 rfl rfl)
theorem dX7_spare_105 : decode cX7_spare 105 = .ok (.istore 5, 2) := dk_54 5 (dk_at dksX7_spare_4 12 rfl rfl)
theorem dX7_spare_107 : decode cX7_spare 107 = .ok (.iinc 7 1, 3) := dk_132 7 1 (dk_at dksX7_spare_4 14 rfl rfl)
theorem dX7_spare_110 : decode cX7_spare 110 = .ok (.goto (-60), 3) := dk_167 255 196 (dk_at dksX7_spare_4 17 rfl rfl)
theorem dX7_spare_113 : decode cX7_spare 113 = .ok (.aload_n 0, 1) := dk_42 (dk_at dksX7_spare_4 20 rfl rfl)
theorem dX7_spare_114 : decode cX7_spare 114 = .ok (.invokevirtual 627, 3) := dk_182 2 115 (dk_at dksX7_spare_4 21 rfl rfl)
theorem dX7_spare_117 : decode cX7_spare 117 = .ok (.iload_n 3, 1) := dk_29 (dk_at dksX7_spare_5 0 rfl rfl)
theorem dX7_spare_118 : decode cX7_spare 118 = .ok (.ifCond .ne 8, 3) := dk_154 0 8 (dk_at dksX7_spare_5 1 rfl rfl)
theorem dX7_spare_121 : decode cX7_spare 121 = .ok (.iload 4, 2) := dk_21 4 (dk_at dksX7_spare_5 4 rfl rfl)
theorem dX7_spare_123 : decode cX7_spare 123 = .ok (.goto 5, 3) := dk_167 0 5 (dk_at dksX7_spare_5 6 rfl rfl)
theorem dX7_spare_126 : decode cX7_spare 126 = .ok (.iload 5, 2) := dk_21 5 (dk_at dksX7_spare_5 9 rfl rfl)
theorem dX7_spare_128 : decode cX7_spare 128 = .ok (.ireturn, 1) := dk_172 (dk_at dksX7_spare_5 11 rfl rfl)
abbrev cX7_movesNow : ByteArray := prog_25_method_64_code
def yX7_movesNow : MethodName := ⟨RX7, "movesNow", "()I"⟩
def dkwX7_movesNow_2 : List UInt8 := [167, 255, 223, 27, 172]
abbrev dktX7_movesNow_2 : List UInt8 := dkwX7_movesNow_2 ++ []
def dkwX7_movesNow_1 : List UInt8 := [182, 1, 212, 42, 180, 0, 154, 4, 46, 160, 0, 11, 27, 42, 28, 182, 1, 222, 96, 60, 132, 2, 1]
abbrev dktX7_movesNow_1 : List UInt8 := dkwX7_movesNow_1 ++ dktX7_movesNow_2
def dkwX7_movesNow_0 : List UInt8 := [3, 60, 42, 182, 1, 228, 153, 0, 5, 3, 172, 3, 61, 28, 42, 182, 1, 177, 162, 0, 31, 42, 28]
abbrev dktX7_movesNow_0 : List UInt8 := dkwX7_movesNow_0 ++ dktX7_movesNow_1
theorem dksX7_movesNow_0 : cX7_movesNow.data.toList.drop 0 = dktX7_movesNow_0 := by decide +kernel
theorem dksX7_movesNow_1 : cX7_movesNow.data.toList.drop 23 = dktX7_movesNow_1 := dk_seg dksX7_movesNow_0 23 rfl rfl
theorem dksX7_movesNow_2 : cX7_movesNow.data.toList.drop 46 = dktX7_movesNow_2 := dk_seg dksX7_movesNow_1 23 rfl rfl
theorem dX7_movesNow_0 : decode cX7_movesNow 0 = .ok (.iconst 0, 1) := dk_3 (dk_at dksX7_movesNow_0 0 rfl rfl)
theorem dX7_movesNow_1 : decode cX7_movesNow 1 = .ok (.istore_n 1, 1) := dk_60 (dk_at dksX7_movesNow_0 1 rfl rfl)
theorem dX7_movesNow_2 : decode cX7_movesNow 2 = .ok (.aload_n 0, 1) := dk_42 (dk_at dksX7_movesNow_0 2 rfl rfl)
theorem dX7_movesNow_3 : decode cX7_movesNow 3 = .ok (.invokevirtual 484, 3) := dk_182 1 228 (dk_at dksX7_movesNow_0 3 rfl rfl)
theorem dX7_movesNow_6 : decode cX7_movesNow 6 = .ok (.ifCond .eq 5, 3) := dk_153 0 5 (dk_at dksX7_movesNow_0 6 rfl rfl)
theorem dX7_movesNow_9 : decode cX7_movesNow 9 = .ok (.iconst 0, 1) := dk_3 (dk_at dksX7_movesNow_0 9 rfl rfl)
theorem dX7_movesNow_10 : decode cX7_movesNow 10 = .ok (.ireturn, 1) := dk_172 (dk_at dksX7_movesNow_0 10 rfl rfl)
theorem dX7_movesNow_11 : decode cX7_movesNow 11 = .ok (.iconst 0, 1) := dk_3 (dk_at dksX7_movesNow_0 11 rfl rfl)
theorem dX7_movesNow_12 : decode cX7_movesNow 12 = .ok (.istore_n 2, 1) := dk_61 (dk_at dksX7_movesNow_0 12 rfl rfl)
theorem dX7_movesNow_13 : decode cX7_movesNow 13 = .ok (.iload_n 2, 1) := dk_28 (dk_at dksX7_movesNow_0 13 rfl rfl)
theorem dX7_movesNow_14 : decode cX7_movesNow 14 = .ok (.aload_n 0, 1) := dk_42 (dk_at dksX7_movesNow_0 14 rfl rfl)
theorem dX7_movesNow_15 : decode cX7_movesNow 15 = .ok (.invokevirtual 433, 3) := dk_182 1 177 (dk_at dksX7_movesNow_0 15 rfl rfl)
theorem dX7_movesNow_18 : decode cX7_movesNow 18 = .ok (.if_icmp .ge 31, 3) := dk_162 0 31 (dk_at dksX7_movesNow_0 18 rfl rfl)
theorem dX7_movesNow_21 : decode cX7_movesNow 21 = .ok (.aload_n 0, 1) := dk_42 (dk_at dksX7_movesNow_0 21 rfl rfl)
theorem dX7_movesNow_22 : decode cX7_movesNow 22 = .ok (.iload_n 2, 1) := dk_28 (dk_at dksX7_movesNow_0 22 rfl rfl)
theorem dX7_movesNow_23 : decode cX7_movesNow 23 = .ok (.invokevirtual 468, 3) := dk_182 1 212 (dk_at dksX7_movesNow_1 0 rfl rfl)
theorem dX7_movesNow_26 : decode cX7_movesNow 26 = .ok (.aload_n 0, 1) := dk_42 (dk_at dksX7_movesNow_1 3 rfl rfl)
theorem dX7_movesNow_27 : decode cX7_movesNow 27 = .ok (.getfield 154, 3) := dk_180 0 154 (dk_at dksX7_movesNow_1 4 rfl rfl)
theorem dX7_movesNow_30 : decode cX7_movesNow 30 = .ok (.iconst 1, 1) := dk_4 (dk_at dksX7_movesNow_1 7 rfl rfl)
theorem dX7_movesNow_31 : decode cX7_movesNow 31 = .ok (.iaload, 1) := dk_46 (dk_at dksX7_movesNow_1 8 rfl rfl)
theorem dX7_movesNow_32 : decode cX7_movesNow 32 = .ok (.if_icmp .ne 11, 3) := dk_160 0 11 (dk_at dksX7_movesNow_1 9 rfl rfl)
theorem dX7_movesNow_35 : decode cX7_movesNow 35 = .ok (.iload_n 1, 1) := dk_27 (dk_at dksX7_movesNow_1 12 rfl rfl)
theorem dX7_movesNow_36 : decode cX7_movesNow 36 = .ok (.aload_n 0, 1) := dk_42 (dk_at dksX7_movesNow_1 13 rfl rfl)
theorem dX7_movesNow_37 : decode cX7_movesNow 37 = .ok (.iload_n 2, 1) := dk_28 (dk_at dksX7_movesNow_1 14 rfl rfl)
theorem dX7_movesNow_38 : decode cX7_movesNow 38 = .ok (.invokevirtual 478, 3) := dk_182 1 222 (dk_at dksX7_movesNow_1 15 rfl rfl)
theorem dX7_movesNow_41 : decode cX7_movesNow 41 = .ok (.iadd, 1) := dk_96 (dk_at dksX7_movesNow_1 18 rfl rfl)
theorem dX7_movesNow_42 : decode cX7_movesNow 42 = .ok (.istore_n 1, 1) := dk_60 (dk_at dksX7_movesNow_1 19 rfl rfl)
theorem dX7_movesNow_43 : decode cX7_movesNow 43 = .ok (.iinc 2 1, 3) := dk_132 2 1 (dk_at dksX7_movesNow_1 20 rfl rfl)
theorem dX7_movesNow_46 : decode cX7_movesNow 46 = .ok (.goto (-33), 3) := dk_167 255 223 (dk_at dksX7_movesNow_2 0 rfl rfl)
theorem dX7_movesNow_49 : decode cX7_movesNow 49 = .ok (.iload_n 1, 1) := dk_27 (dk_at dksX7_movesNow_2 3 rfl rfl)
theorem dX7_movesNow_50 : decode cX7_movesNow 50 = .ok (.ireturn, 1) := dk_172 (dk_at dksX7_movesNow_2 4 rfl rfl)
abbrev cX7_sow : ByteArray := prog_25_method_96_code
def yX7_sow : MethodName := ⟨RX7, "sow", "(II)I"⟩
def dkwX7_sow_7 : List UInt8 := [20, 2, 124, 148, 158, 0, 9, 19, 2, 126, 167, 0, 10, 42, 180, 0, 175, 29, 47, 136, 172]
abbrev dktX7_sow_7 : List UInt8 := dkwX7_sow_7 ++ []
def dkwX7_sow_6 : List UInt8 := [28, 4, 160, 0, 14, 29, 42, 180, 0, 127, 7, 46, 108, 167, 0, 29, 42, 180, 0, 175, 29, 47]
abbrev dktX7_sow_6 : List UInt8 := dkwX7_sow_6 ++ dktX7_sow_7
def dkwX7_sow_5 : List UInt8 := [21, 4, 62, 132, 4, 1, 167, 255, 224, 28, 154, 0, 14, 29, 42, 180, 0, 127, 7, 46, 112, 167, 0, 45]
abbrev dktX7_sow_5 : List UInt8 := dkwX7_sow_5 ++ dktX7_sow_6
def dkwX7_sow_4 : List UInt8 := [42, 182, 1, 215, 162, 0, 29, 42, 180, 0, 175, 21, 4, 47, 42, 180, 0, 175, 29, 47, 148, 156, 0, 6]
abbrev dktX7_sow_4 : List UInt8 := dkwX7_sow_4 ++ dktX7_sow_5
def dkwX7_sow_3 : List UInt8 := [182, 2, 121, 42, 182, 2, 66, 132, 3, 1, 167, 255, 228, 42, 182, 2, 115, 3, 62, 4, 54, 4, 21, 4]
abbrev dktX7_sow_3 : List UInt8 := dkwX7_sow_3 ++ dktX7_sow_4
def dkwX7_sow_2 : List UInt8 := [182, 2, 109, 3, 62, 29, 27, 162, 0, 29, 42, 182, 2, 63, 42, 180, 2, 3, 2, 159, 0, 7, 42]
abbrev dktX7_sow_2 : List UInt8 := dkwX7_sow_2 ++ dktX7_sow_3
def dkwX7_sow_1 : List UInt8 := [172, 3, 62, 29, 16, 25, 162, 0, 16, 42, 180, 0, 175, 29, 9, 80, 132, 3, 1, 167, 255, 240, 42]
abbrev dktX7_sow_1 : List UInt8 := dkwX7_sow_1 ++ dktX7_sow_2
def dkwX7_sow_0 : List UInt8 := [42, 27, 3, 16, 20, 182, 2, 106, 153, 0, 15, 28, 133, 9, 20, 2, 81, 184, 1, 65, 154, 0, 5, 2]
abbrev dktX7_sow_0 : List UInt8 := dkwX7_sow_0 ++ dktX7_sow_1
theorem dksX7_sow_0 : cX7_sow.data.toList.drop 0 = dktX7_sow_0 := by decide +kernel
theorem dksX7_sow_1 : cX7_sow.data.toList.drop 24 = dktX7_sow_1 := dk_seg dksX7_sow_0 24 rfl rfl
theorem dksX7_sow_2 : cX7_sow.data.toList.drop 47 = dktX7_sow_2 := dk_seg dksX7_sow_1 23 rfl rfl
theorem dksX7_sow_3 : cX7_sow.data.toList.drop 70 = dktX7_sow_3 := dk_seg dksX7_sow_2 23 rfl rfl
theorem dksX7_sow_4 : cX7_sow.data.toList.drop 94 = dktX7_sow_4 := dk_seg dksX7_sow_3 24 rfl rfl
theorem dksX7_sow_5 : cX7_sow.data.toList.drop 118 = dktX7_sow_5 := dk_seg dksX7_sow_4 24 rfl rfl
theorem dksX7_sow_6 : cX7_sow.data.toList.drop 142 = dktX7_sow_6 := dk_seg dksX7_sow_5 24 rfl rfl
theorem dksX7_sow_7 : cX7_sow.data.toList.drop 164 = dktX7_sow_7 := dk_seg dksX7_sow_6 22 rfl rfl
theorem dX7_sow_0 : decode cX7_sow 0 = .ok (.aload_n 0, 1) := dk_42 (dk_at dksX7_sow_0 0 rfl rfl)
theorem dX7_sow_1 : decode cX7_sow 1 = .ok (.iload_n 1, 1) := dk_27 (dk_at dksX7_sow_0 1 rfl rfl)
theorem dX7_sow_2 : decode cX7_sow 2 = .ok (.iconst 0, 1) := dk_3 (dk_at dksX7_sow_0 2 rfl rfl)
theorem dX7_sow_3 : decode cX7_sow 3 = .ok (.bipush 20, 2) := dk_16 20 (dk_at dksX7_sow_0 3 rfl rfl)
theorem dX7_sow_5 : decode cX7_sow 5 = .ok (.invokevirtual 618, 3) := dk_182 2 106 (dk_at dksX7_sow_0 5 rfl rfl)
theorem dX7_sow_8 : decode cX7_sow 8 = .ok (.ifCond .eq 15, 3) := dk_153 0 15 (dk_at dksX7_sow_0 8 rfl rfl)
theorem dX7_sow_11 : decode cX7_sow 11 = .ok (.iload_n 2, 1) := dk_28 (dk_at dksX7_sow_0 11 rfl rfl)
theorem dX7_sow_12 : decode cX7_sow 12 = .ok (.i2l, 1) := dk_133 (dk_at dksX7_sow_0 12 rfl rfl)
theorem dX7_sow_13 : decode cX7_sow 13 = .ok (.lconst 0, 1) := dk_9 (dk_at dksX7_sow_0 13 rfl rfl)
theorem dX7_sow_14 : decode cX7_sow 14 = .ok (.ldc2_w 593, 3) := dk_20 2 81 (dk_at dksX7_sow_0 14 rfl rfl)
theorem dX7_sow_17 : decode cX7_sow 17 = .ok (.invokestatic 321, 3) := dk_184 1 65 (dk_at dksX7_sow_0 17 rfl rfl)
theorem dX7_sow_20 : decode cX7_sow 20 = .ok (.ifCond .ne 5, 3) := dk_154 0 5 (dk_at dksX7_sow_0 20 rfl rfl)
theorem dX7_sow_23 : decode cX7_sow 23 = .ok (.iconst (-1), 1) := dk_2 (dk_at dksX7_sow_0 23 rfl rfl)
theorem dX7_sow_24 : decode cX7_sow 24 = .ok (.ireturn, 1) := dk_172 (dk_at dksX7_sow_1 0 rfl rfl)
theorem dX7_sow_25 : decode cX7_sow 25 = .ok (.iconst 0, 1) := dk_3 (dk_at dksX7_sow_1 1 rfl rfl)
theorem dX7_sow_26 : decode cX7_sow 26 = .ok (.istore_n 3, 1) := dk_62 (dk_at dksX7_sow_1 2 rfl rfl)
theorem dX7_sow_27 : decode cX7_sow 27 = .ok (.iload_n 3, 1) := dk_29 (dk_at dksX7_sow_1 3 rfl rfl)
theorem dX7_sow_28 : decode cX7_sow 28 = .ok (.bipush 25, 2) := dk_16 25 (dk_at dksX7_sow_1 4 rfl rfl)
theorem dX7_sow_30 : decode cX7_sow 30 = .ok (.if_icmp .ge 16, 3) := dk_162 0 16 (dk_at dksX7_sow_1 6 rfl rfl)
theorem dX7_sow_33 : decode cX7_sow 33 = .ok (.aload_n 0, 1) := dk_42 (dk_at dksX7_sow_1 9 rfl rfl)
theorem dX7_sow_34 : decode cX7_sow 34 = .ok (.getfield 175, 3) := dk_180 0 175 (dk_at dksX7_sow_1 10 rfl rfl)
theorem dX7_sow_37 : decode cX7_sow 37 = .ok (.iload_n 3, 1) := dk_29 (dk_at dksX7_sow_1 13 rfl rfl)
theorem dX7_sow_38 : decode cX7_sow 38 = .ok (.lconst 0, 1) := dk_9 (dk_at dksX7_sow_1 14 rfl rfl)
theorem dX7_sow_39 : decode cX7_sow 39 = .ok (.lastore, 1) := dk_80 (dk_at dksX7_sow_1 15 rfl rfl)
theorem dX7_sow_40 : decode cX7_sow 40 = .ok (.iinc 3 1, 3) := dk_132 3 1 (dk_at dksX7_sow_1 16 rfl rfl)
theorem dX7_sow_43 : decode cX7_sow 43 = .ok (.goto (-16), 3) := dk_167 255 240 (dk_at dksX7_sow_1 19 rfl rfl)
theorem dX7_sow_46 : decode cX7_sow 46 = .ok (.aload_n 0, 1) := dk_42 (dk_at dksX7_sow_1 22 rfl rfl)
theorem dX7_sow_47 : decode cX7_sow 47 = .ok (.invokevirtual 621, 3) := dk_182 2 109 (dk_at dksX7_sow_2 0 rfl rfl)
theorem dX7_sow_50 : decode cX7_sow 50 = .ok (.iconst 0, 1) := dk_3 (dk_at dksX7_sow_2 3 rfl rfl)
theorem dX7_sow_51 : decode cX7_sow 51 = .ok (.istore_n 3, 1) := dk_62 (dk_at dksX7_sow_2 4 rfl rfl)
theorem dX7_sow_52 : decode cX7_sow 52 = .ok (.iload_n 3, 1) := dk_29 (dk_at dksX7_sow_2 5 rfl rfl)
theorem dX7_sow_53 : decode cX7_sow 53 = .ok (.iload_n 1, 1) := dk_27 (dk_at dksX7_sow_2 6 rfl rfl)
theorem dX7_sow_54 : decode cX7_sow 54 = .ok (.if_icmp .ge 29, 3) := dk_162 0 29 (dk_at dksX7_sow_2 7 rfl rfl)
theorem dX7_sow_57 : decode cX7_sow 57 = .ok (.aload_n 0, 1) := dk_42 (dk_at dksX7_sow_2 10 rfl rfl)
theorem dX7_sow_58 : decode cX7_sow 58 = .ok (.invokevirtual 575, 3) := dk_182 2 63 (dk_at dksX7_sow_2 11 rfl rfl)
theorem dX7_sow_61 : decode cX7_sow 61 = .ok (.aload_n 0, 1) := dk_42 (dk_at dksX7_sow_2 14 rfl rfl)
theorem dX7_sow_62 : decode cX7_sow 62 = .ok (.getfield 515, 3) := dk_180 2 3 (dk_at dksX7_sow_2 15 rfl rfl)
theorem dX7_sow_65 : decode cX7_sow 65 = .ok (.iconst (-1), 1) := dk_2 (dk_at dksX7_sow_2 18 rfl rfl)
theorem dX7_sow_66 : decode cX7_sow 66 = .ok (.if_icmp .eq 7, 3) := dk_159 0 7 (dk_at dksX7_sow_2 19 rfl rfl)
theorem dX7_sow_69 : decode cX7_sow 69 = .ok (.aload_n 0, 1) := dk_42 (dk_at dksX7_sow_2 22 rfl rfl)
theorem dX7_sow_70 : decode cX7_sow 70 = .ok (.invokevirtual 633, 3) := dk_182 2 121 (dk_at dksX7_sow_3 0 rfl rfl)
theorem dX7_sow_73 : decode cX7_sow 73 = .ok (.aload_n 0, 1) := dk_42 (dk_at dksX7_sow_3 3 rfl rfl)
theorem dX7_sow_74 : decode cX7_sow 74 = .ok (.invokevirtual 578, 3) := dk_182 2 66 (dk_at dksX7_sow_3 4 rfl rfl)
theorem dX7_sow_77 : decode cX7_sow 77 = .ok (.iinc 3 1, 3) := dk_132 3 1 (dk_at dksX7_sow_3 7 rfl rfl)
theorem dX7_sow_80 : decode cX7_sow 80 = .ok (.goto (-28), 3) := dk_167 255 228 (dk_at dksX7_sow_3 10 rfl rfl)
theorem dX7_sow_83 : decode cX7_sow 83 = .ok (.aload_n 0, 1) := dk_42 (dk_at dksX7_sow_3 13 rfl rfl)
theorem dX7_sow_84 : decode cX7_sow 84 = .ok (.invokevirtual 627, 3) := dk_182 2 115 (dk_at dksX7_sow_3 14 rfl rfl)
theorem dX7_sow_87 : decode cX7_sow 87 = .ok (.iconst 0, 1) := dk_3 (dk_at dksX7_sow_3 17 rfl rfl)
theorem dX7_sow_88 : decode cX7_sow 88 = .ok (.istore_n 3, 1) := dk_62 (dk_at dksX7_sow_3 18 rfl rfl)
theorem dX7_sow_89 : decode cX7_sow 89 = .ok (.iconst 1, 1) := dk_4 (dk_at dksX7_sow_3 19 rfl rfl)
theorem dX7_sow_90 : decode cX7_sow 90 = .ok (.istore 4, 2) := dk_54 4 (dk_at dksX7_sow_3 20 rfl rfl)
theorem dX7_sow_92 : decode cX7_sow 92 = .ok (.iload 4, 2) := dk_21 4 (dk_at dksX7_sow_3 22 rfl rfl)
theorem dX7_sow_94 : decode cX7_sow 94 = .ok (.aload_n 0, 1) := dk_42 (dk_at dksX7_sow_4 0 rfl rfl)
theorem dX7_sow_95 : decode cX7_sow 95 = .ok (.invokevirtual 471, 3) := dk_182 1 215 (dk_at dksX7_sow_4 1 rfl rfl)
theorem dX7_sow_98 : decode cX7_sow 98 = .ok (.if_icmp .ge 29, 3) := dk_162 0 29 (dk_at dksX7_sow_4 4 rfl rfl)
theorem dX7_sow_101 : decode cX7_sow 101 = .ok (.aload_n 0, 1) := dk_42 (dk_at dksX7_sow_4 7 rfl rfl)
theorem dX7_sow_102 : decode cX7_sow 102 = .ok (.getfield 175, 3) := dk_180 0 175 (dk_at dksX7_sow_4 8 rfl rfl)
theorem dX7_sow_105 : decode cX7_sow 105 = .ok (.iload 4, 2) := dk_21 4 (dk_at dksX7_sow_4 11 rfl rfl)
theorem dX7_sow_107 : decode cX7_sow 107 = .ok (.laload, 1) := dk_47 (dk_at dksX7_sow_4 13 rfl rfl)
theorem dX7_sow_108 : decode cX7_sow 108 = .ok (.aload_n 0, 1) := dk_42 (dk_at dksX7_sow_4 14 rfl rfl)
theorem dX7_sow_109 : decode cX7_sow 109 = .ok (.getfield 175, 3) := dk_180 0 175 (dk_at dksX7_sow_4 15 rfl rfl)
theorem dX7_sow_112 : decode cX7_sow 112 = .ok (.iload_n 3, 1) := dk_29 (dk_at dksX7_sow_4 18 rfl rfl)
theorem dX7_sow_113 : decode cX7_sow 113 = .ok (.laload, 1) := dk_47 (dk_at dksX7_sow_4 19 rfl rfl)
theorem dX7_sow_114 : decode cX7_sow 114 = .ok (.lcmp, 1) := dk_148 (dk_at dksX7_sow_4 20 rfl rfl)
theorem dX7_sow_115 : decode cX7_sow 115 = .ok (.ifCond .ge 6, 3) := dk_156 0 6 (dk_at dksX7_sow_4 21 rfl rfl)
theorem dX7_sow_118 : decode cX7_sow 118 = .ok (.iload 4, 2) := dk_21 4 (dk_at dksX7_sow_5 0 rfl rfl)
theorem dX7_sow_120 : decode cX7_sow 120 = .ok (.istore_n 3, 1) := dk_62 (dk_at dksX7_sow_5 2 rfl rfl)
theorem dX7_sow_121 : decode cX7_sow 121 = .ok (.iinc 4 1, 3) := dk_132 4 1 (dk_at dksX7_sow_5 3 rfl rfl)
theorem dX7_sow_124 : decode cX7_sow 124 = .ok (.goto (-32), 3) := dk_167 255 224 (dk_at dksX7_sow_5 6 rfl rfl)
theorem dX7_sow_127 : decode cX7_sow 127 = .ok (.iload_n 2, 1) := dk_28 (dk_at dksX7_sow_5 9 rfl rfl)
theorem dX7_sow_128 : decode cX7_sow 128 = .ok (.ifCond .ne 14, 3) := dk_154 0 14 (dk_at dksX7_sow_5 10 rfl rfl)
theorem dX7_sow_131 : decode cX7_sow 131 = .ok (.iload_n 3, 1) := dk_29 (dk_at dksX7_sow_5 13 rfl rfl)
theorem dX7_sow_132 : decode cX7_sow 132 = .ok (.aload_n 0, 1) := dk_42 (dk_at dksX7_sow_5 14 rfl rfl)
theorem dX7_sow_133 : decode cX7_sow 133 = .ok (.getfield 127, 3) := dk_180 0 127 (dk_at dksX7_sow_5 15 rfl rfl)
theorem dX7_sow_136 : decode cX7_sow 136 = .ok (.iconst 4, 1) := dk_7 (dk_at dksX7_sow_5 18 rfl rfl)
theorem dX7_sow_137 : decode cX7_sow 137 = .ok (.iaload, 1) := dk_46 (dk_at dksX7_sow_5 19 rfl rfl)
theorem dX7_sow_138 : decode cX7_sow 138 = .ok (.irem, 1) := dk_112 (dk_at dksX7_sow_5 20 rfl rfl)
theorem dX7_sow_139 : decode cX7_sow 139 = .ok (.goto 45, 3) := dk_167 0 45 (dk_at dksX7_sow_5 21 rfl rfl)
theorem dX7_sow_142 : decode cX7_sow 142 = .ok (.iload_n 2, 1) := dk_28 (dk_at dksX7_sow_6 0 rfl rfl)
theorem dX7_sow_143 : decode cX7_sow 143 = .ok (.iconst 1, 1) := dk_4 (dk_at dksX7_sow_6 1 rfl rfl)
theorem dX7_sow_144 : decode cX7_sow 144 = .ok (.if_icmp .ne 14, 3) := dk_160 0 14 (dk_at dksX7_sow_6 2 rfl rfl)
theorem dX7_sow_147 : decode cX7_sow 147 = .ok (.iload_n 3, 1) := dk_29 (dk_at dksX7_sow_6 5 rfl rfl)
theorem dX7_sow_148 : decode cX7_sow 148 = .ok (.aload_n 0, 1) := dk_42 (dk_at dksX7_sow_6 6 rfl rfl)
theorem dX7_sow_149 : decode cX7_sow 149 = .ok (.getfield 127, 3) := dk_180 0 127 (dk_at dksX7_sow_6 7 rfl rfl)
theorem dX7_sow_152 : decode cX7_sow 152 = .ok (.iconst 4, 1) := dk_7 (dk_at dksX7_sow_6 10 rfl rfl)
theorem dX7_sow_153 : decode cX7_sow 153 = .ok (.iaload, 1) := dk_46 (dk_at dksX7_sow_6 11 rfl rfl)
theorem dX7_sow_154 : decode cX7_sow 154 = .ok (.idiv, 1) := dk_108 (dk_at dksX7_sow_6 12 rfl rfl)
theorem dX7_sow_155 : decode cX7_sow 155 = .ok (.goto 29, 3) := dk_167 0 29 (dk_at dksX7_sow_6 13 rfl rfl)
theorem dX7_sow_158 : decode cX7_sow 158 = .ok (.aload_n 0, 1) := dk_42 (dk_at dksX7_sow_6 16 rfl rfl)
theorem dX7_sow_159 : decode cX7_sow 159 = .ok (.getfield 175, 3) := dk_180 0 175 (dk_at dksX7_sow_6 17 rfl rfl)
theorem dX7_sow_162 : decode cX7_sow 162 = .ok (.iload_n 3, 1) := dk_29 (dk_at dksX7_sow_6 20 rfl rfl)
theorem dX7_sow_163 : decode cX7_sow 163 = .ok (.laload, 1) := dk_47 (dk_at dksX7_sow_6 21 rfl rfl)
theorem dX7_sow_164 : decode cX7_sow 164 = .ok (.ldc2_w 636, 3) := dk_20 2 124 (dk_at dksX7_sow_7 0 rfl rfl)
theorem dX7_sow_167 : decode cX7_sow 167 = .ok (.lcmp, 1) := dk_148 (dk_at dksX7_sow_7 3 rfl rfl)
theorem dX7_sow_168 : decode cX7_sow 168 = .ok (.ifCond .le 9, 3) := dk_158 0 9 (dk_at dksX7_sow_7 4 rfl rfl)
theorem dX7_sow_171 : decode cX7_sow 171 = .ok (.ldc_w 638, 3) := dk_19 2 126 (dk_at dksX7_sow_7 7 rfl rfl)
theorem dX7_sow_174 : decode cX7_sow 174 = .ok (.goto 10, 3) := dk_167 0 10 (dk_at dksX7_sow_7 10 rfl rfl)
theorem dX7_sow_177 : decode cX7_sow 177 = .ok (.aload_n 0, 1) := dk_42 (dk_at dksX7_sow_7 13 rfl rfl)
theorem dX7_sow_178 : decode cX7_sow 178 = .ok (.getfield 175, 3) := dk_180 0 175 (dk_at dksX7_sow_7 14 rfl rfl)
theorem dX7_sow_181 : decode cX7_sow 181 = .ok (.iload_n 3, 1) := dk_29 (dk_at dksX7_sow_7 17 rfl rfl)
theorem dX7_sow_182 : decode cX7_sow 182 = .ok (.laload, 1) := dk_47 (dk_at dksX7_sow_7 18 rfl rfl)
theorem dX7_sow_183 : decode cX7_sow 183 = .ok (.l2i, 1) := dk_136 (dk_at dksX7_sow_7 19 rfl rfl)
theorem dX7_sow_184 : decode cX7_sow 184 = .ok (.ireturn, 1) := dk_172 (dk_at dksX7_sow_7 20 rfl rfl)
abbrev cX7_laysHarms : ByteArray := prog_25_method_69_code
def yX7_laysHarms : MethodName := ⟨RX7, "laysHarms", "()V"⟩
def dkwX7_laysHarms_5 : List UInt8 := [112, 21, 4, 42, 180, 0, 127, 7, 46, 108, 27, 28, 182, 2, 47, 97, 80, 132, 4, 1, 167, 255, 210, 177]
abbrev dktX7_laysHarms_5 : List UInt8 := dkwX7_laysHarms_5 ++ []
def dkwX7_laysHarms_4 : List UInt8 := [42, 182, 1, 215, 162, 0, 43, 42, 180, 0, 175, 21, 4, 92, 47, 42, 21, 4, 42, 180, 0, 127, 7, 46]
abbrev dktX7_laysHarms_4 : List UInt8 := dkwX7_laysHarms_4 ++ dktX7_laysHarms_5
def dkwX7_laysHarms_3 : List UInt8 := [182, 2, 41, 153, 0, 7, 10, 167, 0, 4, 9, 181, 2, 44, 42, 7, 182, 1, 247, 3, 54, 4, 21, 4]
abbrev dktX7_laysHarms_3 : List UInt8 := dkwX7_laysHarms_3 ++ dktX7_laysHarms_4
def dkwX7_laysHarms_2 : List UInt8 := [181, 2, 15, 42, 7, 42, 180, 2, 9, 42, 180, 2, 12, 182, 1, 240, 42, 42, 42, 180, 0, 154, 4, 46]
abbrev dktX7_laysHarms_2 : List UInt8 := dkwX7_laysHarms_2 ++ dktX7_laysHarms_3
def dkwX7_laysHarms_1 : List UInt8 := [42, 27, 28, 182, 1, 199, 62, 42, 29, 2, 160, 0, 7, 9, 167, 0, 9, 42, 29, 182, 1, 234, 133]
abbrev dktX7_laysHarms_1 : List UInt8 := dkwX7_laysHarms_1 ++ dktX7_laysHarms_2
def dkwX7_laysHarms_0 : List UInt8 := [42, 180, 2, 12, 42, 180, 0, 127, 7, 46, 112, 60, 42, 180, 2, 12, 42, 180, 0, 127, 7, 46, 108, 61]
abbrev dktX7_laysHarms_0 : List UInt8 := dkwX7_laysHarms_0 ++ dktX7_laysHarms_1
theorem dksX7_laysHarms_0 : cX7_laysHarms.data.toList.drop 0 = dktX7_laysHarms_0 := by decide +kernel
theorem dksX7_laysHarms_1 : cX7_laysHarms.data.toList.drop 24 = dktX7_laysHarms_1 := dk_seg dksX7_laysHarms_0 24 rfl rfl
theorem dksX7_laysHarms_2 : cX7_laysHarms.data.toList.drop 47 = dktX7_laysHarms_2 := dk_seg dksX7_laysHarms_1 23 rfl rfl
theorem dksX7_laysHarms_3 : cX7_laysHarms.data.toList.drop 71 = dktX7_laysHarms_3 := dk_seg dksX7_laysHarms_2 24 rfl rfl
theorem dksX7_laysHarms_4 : cX7_laysHarms.data.toList.drop 95 = dktX7_laysHarms_4 := dk_seg dksX7_laysHarms_3 24 rfl rfl
theorem dksX7_laysHarms_5 : cX7_laysHarms.data.toList.drop 119 = dktX7_laysHarms_5 := dk_seg dksX7_laysHarms_4 24 rfl rfl
theorem dX7_laysHarms_0 : decode cX7_laysHarms 0 = .ok (.aload_n 0, 1) := dk_42 (dk_at dksX7_laysHarms_0 0 rfl rfl)
theorem dX7_laysHarms_1 : decode cX7_laysHarms 1 = .ok (.getfield 524, 3) := dk_180 2 12 (dk_at dksX7_laysHarms_0 1 rfl rfl)
theorem dX7_laysHarms_4 : decode cX7_laysHarms 4 = .ok (.aload_n 0, 1) := dk_42 (dk_at dksX7_laysHarms_0 4 rfl rfl)
theorem dX7_laysHarms_5 : decode cX7_laysHarms 5 = .ok (.getfield 127, 3) := dk_180 0 127 (dk_at dksX7_laysHarms_0 5 rfl rfl)
theorem dX7_laysHarms_8 : decode cX7_laysHarms 8 = .ok (.iconst 4, 1) := dk_7 (dk_at dksX7_laysHarms_0 8 rfl rfl)
theorem dX7_laysHarms_9 : decode cX7_laysHarms 9 = .ok (.iaload, 1) := dk_46 (dk_at dksX7_laysHarms_0 9 rfl rfl)
theorem dX7_laysHarms_10 : decode cX7_laysHarms 10 = .ok (.irem, 1) := dk_112 (dk_at dksX7_laysHarms_0 10 rfl rfl)
theorem dX7_laysHarms_11 : decode cX7_laysHarms 11 = .ok (.istore_n 1, 1) := dk_60 (dk_at dksX7_laysHarms_0 11 rfl rfl)
theorem dX7_laysHarms_12 : decode cX7_laysHarms 12 = .ok (.aload_n 0, 1) := dk_42 (dk_at dksX7_laysHarms_0 12 rfl rfl)
theorem dX7_laysHarms_13 : decode cX7_laysHarms 13 = .ok (.getfield 524, 3) := dk_180 2 12 (dk_at dksX7_laysHarms_0 13 rfl rfl)
theorem dX7_laysHarms_16 : decode cX7_laysHarms 16 = .ok (.aload_n 0, 1) := dk_42 (dk_at dksX7_laysHarms_0 16 rfl rfl)
theorem dX7_laysHarms_17 : decode cX7_laysHarms 17 = .ok (.getfield 127, 3) := dk_180 0 127 (dk_at dksX7_laysHarms_0 17 rfl rfl)
theorem dX7_laysHarms_20 : decode cX7_laysHarms 20 = .ok (.iconst 4, 1) := dk_7 (dk_at dksX7_laysHarms_0 20 rfl rfl)
theorem dX7_laysHarms_21 : decode cX7_laysHarms 21 = .ok (.iaload, 1) := dk_46 (dk_at dksX7_laysHarms_0 21 rfl rfl)
theorem dX7_laysHarms_22 : decode cX7_laysHarms 22 = .ok (.idiv, 1) := dk_108 (dk_at dksX7_laysHarms_0 22 rfl rfl)
theorem dX7_laysHarms_23 : decode cX7_laysHarms 23 = .ok (.istore_n 2, 1) := dk_61 (dk_at dksX7_laysHarms_0 23 rfl rfl)
theorem dX7_laysHarms_24 : decode cX7_laysHarms 24 = .ok (.aload_n 0, 1) := dk_42 (dk_at dksX7_laysHarms_1 0 rfl rfl)
theorem dX7_laysHarms_25 : decode cX7_laysHarms 25 = .ok (.iload_n 1, 1) := dk_27 (dk_at dksX7_laysHarms_1 1 rfl rfl)
theorem dX7_laysHarms_26 : decode cX7_laysHarms 26 = .ok (.iload_n 2, 1) := dk_28 (dk_at dksX7_laysHarms_1 2 rfl rfl)
theorem dX7_laysHarms_27 : decode cX7_laysHarms 27 = .ok (.invokevirtual 455, 3) := dk_182 1 199 (dk_at dksX7_laysHarms_1 3 rfl rfl)
theorem dX7_laysHarms_30 : decode cX7_laysHarms 30 = .ok (.istore_n 3, 1) := dk_62 (dk_at dksX7_laysHarms_1 6 rfl rfl)
theorem dX7_laysHarms_31 : decode cX7_laysHarms 31 = .ok (.aload_n 0, 1) := dk_42 (dk_at dksX7_laysHarms_1 7 rfl rfl)
theorem dX7_laysHarms_32 : decode cX7_laysHarms 32 = .ok (.iload_n 3, 1) := dk_29 (dk_at dksX7_laysHarms_1 8 rfl rfl)
theorem dX7_laysHarms_33 : decode cX7_laysHarms 33 = .ok (.iconst (-1), 1) := dk_2 (dk_at dksX7_laysHarms_1 9 rfl rfl)
theorem dX7_laysHarms_34 : decode cX7_laysHarms 34 = .ok (.if_icmp .ne 7, 3) := dk_160 0 7 (dk_at dksX7_laysHarms_1 10 rfl rfl)
theorem dX7_laysHarms_37 : decode cX7_laysHarms 37 = .ok (.lconst 0, 1) := dk_9 (dk_at dksX7_laysHarms_1 13 rfl rfl)
theorem dX7_laysHarms_38 : decode cX7_laysHarms 38 = .ok (.goto 9, 3) := dk_167 0 9 (dk_at dksX7_laysHarms_1 14 rfl rfl)
theorem dX7_laysHarms_41 : decode cX7_laysHarms 41 = .ok (.aload_n 0, 1) := dk_42 (dk_at dksX7_laysHarms_1 17 rfl rfl)
theorem dX7_laysHarms_42 : decode cX7_laysHarms 42 = .ok (.iload_n 3, 1) := dk_29 (dk_at dksX7_laysHarms_1 18 rfl rfl)
theorem dX7_laysHarms_43 : decode cX7_laysHarms 43 = .ok (.invokevirtual 490, 3) := dk_182 1 234 (dk_at dksX7_laysHarms_1 19 rfl rfl)
theorem dX7_laysHarms_46 : decode cX7_laysHarms 46 = .ok (.i2l, 1) := dk_133 (dk_at dksX7_laysHarms_1 22 rfl rfl)
theorem dX7_laysHarms_47 : decode cX7_laysHarms 47 = .ok (.putfield 527, 3) := dk_181 2 15 (dk_at dksX7_laysHarms_2 0 rfl rfl)
theorem dX7_laysHarms_50 : decode cX7_laysHarms 50 = .ok (.aload_n 0, 1) := dk_42 (dk_at dksX7_laysHarms_2 3 rfl rfl)
theorem dX7_laysHarms_51 : decode cX7_laysHarms 51 = .ok (.iconst 4, 1) := dk_7 (dk_at dksX7_laysHarms_2 4 rfl rfl)
theorem dX7_laysHarms_52 : decode cX7_laysHarms 52 = .ok (.aload_n 0, 1) := dk_42 (dk_at dksX7_laysHarms_2 5 rfl rfl)
theorem dX7_laysHarms_53 : decode cX7_laysHarms 53 = .ok (.getfield 521, 3) := dk_180 2 9 (dk_at dksX7_laysHarms_2 6 rfl rfl)
theorem dX7_laysHarms_56 : decode cX7_laysHarms 56 = .ok (.aload_n 0, 1) := dk_42 (dk_at dksX7_laysHarms_2 9 rfl rfl)
theorem dX7_laysHarms_57 : decode cX7_laysHarms 57 = .ok (.getfield 524, 3) := dk_180 2 12 (dk_at dksX7_laysHarms_2 10 rfl rfl)
theorem dX7_laysHarms_60 : decode cX7_laysHarms 60 = .ok (.invokevirtual 496, 3) := dk_182 1 240 (dk_at dksX7_laysHarms_2 13 rfl rfl)
theorem dX7_laysHarms_63 : decode cX7_laysHarms 63 = .ok (.aload_n 0, 1) := dk_42 (dk_at dksX7_laysHarms_2 16 rfl rfl)
theorem dX7_laysHarms_64 : decode cX7_laysHarms 64 = .ok (.aload_n 0, 1) := dk_42 (dk_at dksX7_laysHarms_2 17 rfl rfl)
theorem dX7_laysHarms_65 : decode cX7_laysHarms 65 = .ok (.aload_n 0, 1) := dk_42 (dk_at dksX7_laysHarms_2 18 rfl rfl)
theorem dX7_laysHarms_66 : decode cX7_laysHarms 66 = .ok (.getfield 154, 3) := dk_180 0 154 (dk_at dksX7_laysHarms_2 19 rfl rfl)
theorem dX7_laysHarms_69 : decode cX7_laysHarms 69 = .ok (.iconst 1, 1) := dk_4 (dk_at dksX7_laysHarms_2 22 rfl rfl)
theorem dX7_laysHarms_70 : decode cX7_laysHarms 70 = .ok (.iaload, 1) := dk_46 (dk_at dksX7_laysHarms_2 23 rfl rfl)
theorem dX7_laysHarms_71 : decode cX7_laysHarms 71 = .ok (.invokevirtual 553, 3) := dk_182 2 41 (dk_at dksX7_laysHarms_3 0 rfl rfl)
theorem dX7_laysHarms_74 : decode cX7_laysHarms 74 = .ok (.ifCond .eq 7, 3) := dk_153 0 7 (dk_at dksX7_laysHarms_3 3 rfl rfl)
theorem dX7_laysHarms_77 : decode cX7_laysHarms 77 = .ok (.lconst 1, 1) := dk_10 (dk_at dksX7_laysHarms_3 6 rfl rfl)
theorem dX7_laysHarms_78 : decode cX7_laysHarms 78 = .ok (.goto 4, 3) := dk_167 0 4 (dk_at dksX7_laysHarms_3 7 rfl rfl)
theorem dX7_laysHarms_81 : decode cX7_laysHarms 81 = .ok (.lconst 0, 1) := dk_9 (dk_at dksX7_laysHarms_3 10 rfl rfl)
theorem dX7_laysHarms_82 : decode cX7_laysHarms 82 = .ok (.putfield 556, 3) := dk_181 2 44 (dk_at dksX7_laysHarms_3 11 rfl rfl)
theorem dX7_laysHarms_85 : decode cX7_laysHarms 85 = .ok (.aload_n 0, 1) := dk_42 (dk_at dksX7_laysHarms_3 14 rfl rfl)
theorem dX7_laysHarms_86 : decode cX7_laysHarms 86 = .ok (.iconst 4, 1) := dk_7 (dk_at dksX7_laysHarms_3 15 rfl rfl)
theorem dX7_laysHarms_87 : decode cX7_laysHarms 87 = .ok (.invokevirtual 503, 3) := dk_182 1 247 (dk_at dksX7_laysHarms_3 16 rfl rfl)
theorem dX7_laysHarms_90 : decode cX7_laysHarms 90 = .ok (.iconst 0, 1) := dk_3 (dk_at dksX7_laysHarms_3 19 rfl rfl)
theorem dX7_laysHarms_91 : decode cX7_laysHarms 91 = .ok (.istore 4, 2) := dk_54 4 (dk_at dksX7_laysHarms_3 20 rfl rfl)
theorem dX7_laysHarms_93 : decode cX7_laysHarms 93 = .ok (.iload 4, 2) := dk_21 4 (dk_at dksX7_laysHarms_3 22 rfl rfl)
theorem dX7_laysHarms_95 : decode cX7_laysHarms 95 = .ok (.aload_n 0, 1) := dk_42 (dk_at dksX7_laysHarms_4 0 rfl rfl)
theorem dX7_laysHarms_96 : decode cX7_laysHarms 96 = .ok (.invokevirtual 471, 3) := dk_182 1 215 (dk_at dksX7_laysHarms_4 1 rfl rfl)
theorem dX7_laysHarms_99 : decode cX7_laysHarms 99 = .ok (.if_icmp .ge 43, 3) := dk_162 0 43 (dk_at dksX7_laysHarms_4 4 rfl rfl)
theorem dX7_laysHarms_102 : decode cX7_laysHarms 102 = .ok (.aload_n 0, 1) := dk_42 (dk_at dksX7_laysHarms_4 7 rfl rfl)
theorem dX7_laysHarms_103 : decode cX7_laysHarms 103 = .ok (.getfield 175, 3) := dk_180 0 175 (dk_at dksX7_laysHarms_4 8 rfl rfl)
theorem dX7_laysHarms_106 : decode cX7_laysHarms 106 = .ok (.iload 4, 2) := dk_21 4 (dk_at dksX7_laysHarms_4 11 rfl rfl)
theorem dX7_laysHarms_108 : decode cX7_laysHarms 108 = .ok (.dup2, 1) := dk_92 (dk_at dksX7_laysHarms_4 13 rfl rfl)
theorem dX7_laysHarms_109 : decode cX7_laysHarms 109 = .ok (.laload, 1) := dk_47 (dk_at dksX7_laysHarms_4 14 rfl rfl)
theorem dX7_laysHarms_110 : decode cX7_laysHarms 110 = .ok (.aload_n 0, 1) := dk_42 (dk_at dksX7_laysHarms_4 15 rfl rfl)
theorem dX7_laysHarms_111 : decode cX7_laysHarms 111 = .ok (.iload 4, 2) := dk_21 4 (dk_at dksX7_laysHarms_4 16 rfl rfl)
theorem dX7_laysHarms_113 : decode cX7_laysHarms 113 = .ok (.aload_n 0, 1) := dk_42 (dk_at dksX7_laysHarms_4 18 rfl rfl)
theorem dX7_laysHarms_114 : decode cX7_laysHarms 114 = .ok (.getfield 127, 3) := dk_180 0 127 (dk_at dksX7_laysHarms_4 19 rfl rfl)
theorem dX7_laysHarms_117 : decode cX7_laysHarms 117 = .ok (.iconst 4, 1) := dk_7 (dk_at dksX7_laysHarms_4 22 rfl rfl)
theorem dX7_laysHarms_118 : decode cX7_laysHarms 118 = .ok (.iaload, 1) := dk_46 (dk_at dksX7_laysHarms_4 23 rfl rfl)
theorem dX7_laysHarms_119 : decode cX7_laysHarms 119 = .ok (.irem, 1) := dk_112 (dk_at dksX7_laysHarms_5 0 rfl rfl)
theorem dX7_laysHarms_120 : decode cX7_laysHarms 120 = .ok (.iload 4, 2) := dk_21 4 (dk_at dksX7_laysHarms_5 1 rfl rfl)
theorem dX7_laysHarms_122 : decode cX7_laysHarms 122 = .ok (.aload_n 0, 1) := dk_42 (dk_at dksX7_laysHarms_5 3 rfl rfl)
theorem dX7_laysHarms_123 : decode cX7_laysHarms 123 = .ok (.getfield 127, 3) := dk_180 0 127 (dk_at dksX7_laysHarms_5 4 rfl rfl)
theorem dX7_laysHarms_126 : decode cX7_laysHarms 126 = .ok (.iconst 4, 1) := dk_7 (dk_at dksX7_laysHarms_5 7 rfl rfl)
theorem dX7_laysHarms_127 : decode cX7_laysHarms 127 = .ok (.iaload, 1) := dk_46 (dk_at dksX7_laysHarms_5 8 rfl rfl)
theorem dX7_laysHarms_128 : decode cX7_laysHarms 128 = .ok (.idiv, 1) := dk_108 (dk_at dksX7_laysHarms_5 9 rfl rfl)
theorem dX7_laysHarms_129 : decode cX7_laysHarms 129 = .ok (.iload_n 1, 1) := dk_27 (dk_at dksX7_laysHarms_5 10 rfl rfl)
theorem dX7_laysHarms_130 : decode cX7_laysHarms 130 = .ok (.iload_n 2, 1) := dk_28 (dk_at dksX7_laysHarms_5 11 rfl rfl)
theorem dX7_laysHarms_131 : decode cX7_laysHarms 131 = .ok (.invokevirtual 559, 3) := dk_182 2 47 (dk_at dksX7_laysHarms_5 12 rfl rfl)
theorem dX7_laysHarms_134 : decode cX7_laysHarms 134 = .ok (.ladd, 1) := dk_97 (dk_at dksX7_laysHarms_5 15 rfl rfl)
theorem dX7_laysHarms_135 : decode cX7_laysHarms 135 = .ok (.lastore, 1) := dk_80 (dk_at dksX7_laysHarms_5 16 rfl rfl)
theorem dX7_laysHarms_136 : decode cX7_laysHarms 136 = .ok (.iinc 4 1, 3) := dk_132 4 1 (dk_at dksX7_laysHarms_5 17 rfl rfl)
theorem dX7_laysHarms_139 : decode cX7_laysHarms 139 = .ok (.goto (-46), 3) := dk_167 255 210 (dk_at dksX7_laysHarms_5 20 rfl rfl)
theorem dX7_laysHarms_142 : decode cX7_laysHarms 142 = .ok (.return_, 1) := dk_177 (dk_at dksX7_laysHarms_5 23 rfl rfl)
