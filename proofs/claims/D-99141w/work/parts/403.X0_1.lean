set_option maxRecDepth 100000
abbrev cX0_draw : ByteArray := prog_1_method_58_code
def yX0_draw : MethodName := ⟨RX0, "draw", "(I)I"⟩
def dkwX0_draw_1 : List UInt8 := [20, 1, 123, 109, 27, 133, 113, 136, 172]
abbrev dktX0_draw_1 : List UInt8 := dkwX0_draw_1 ++ []
def dkwX0_draw_0 : List UInt8 := [42, 20, 1, 117, 42, 180, 0, 110, 105, 20, 1, 119, 97, 20, 1, 121, 113, 181, 0, 110, 42, 180, 0, 110]
abbrev dktX0_draw_0 : List UInt8 := dkwX0_draw_0 ++ dktX0_draw_1
theorem dksX0_draw_0 : cX0_draw.data.toList.drop 0 = dktX0_draw_0 := by decide +kernel
theorem dksX0_draw_1 : cX0_draw.data.toList.drop 24 = dktX0_draw_1 := dk_seg dksX0_draw_0 24 rfl rfl
theorem dX0_draw_0 : decode cX0_draw 0 = .ok (.aload_n 0, 1) := dk_42 (dk_at dksX0_draw_0 0 rfl rfl)
theorem dX0_draw_1 : decode cX0_draw 1 = .ok (.ldc2_w 373, 3) := dk_20 1 117 (dk_at dksX0_draw_0 1 rfl rfl)
theorem dX0_draw_4 : decode cX0_draw 4 = .ok (.aload_n 0, 1) := dk_42 (dk_at dksX0_draw_0 4 rfl rfl)
theorem dX0_draw_5 : decode cX0_draw 5 = .ok (.getfield 110, 3) := dk_180 0 110 (dk_at dksX0_draw_0 5 rfl rfl)
theorem dX0_draw_8 : decode cX0_draw 8 = .ok (.lmul, 1) := dk_105 (dk_at dksX0_draw_0 8 rfl rfl)
theorem dX0_draw_9 : decode cX0_draw 9 = .ok (.ldc2_w 375, 3) := dk_20 1 119 (dk_at dksX0_draw_0 9 rfl rfl)
theorem dX0_draw_12 : decode cX0_draw 12 = .ok (.ladd, 1) := dk_97 (dk_at dksX0_draw_0 12 rfl rfl)
theorem dX0_draw_13 : decode cX0_draw 13 = .ok (.ldc2_w 377, 3) := dk_20 1 121 (dk_at dksX0_draw_0 13 rfl rfl)
theorem dX0_draw_16 : decode cX0_draw 16 = .ok (.lrem, 1) := dk_113 (dk_at dksX0_draw_0 16 rfl rfl)
theorem dX0_draw_17 : decode cX0_draw 17 = .ok (.putfield 110, 3) := dk_181 0 110 (dk_at dksX0_draw_0 17 rfl rfl)
theorem dX0_draw_20 : decode cX0_draw 20 = .ok (.aload_n 0, 1) := dk_42 (dk_at dksX0_draw_0 20 rfl rfl)
theorem dX0_draw_21 : decode cX0_draw 21 = .ok (.getfield 110, 3) := dk_180 0 110 (dk_at dksX0_draw_0 21 rfl rfl)
theorem dX0_draw_24 : decode cX0_draw 24 = .ok (.ldc2_w 379, 3) := dk_20 1 123 (dk_at dksX0_draw_1 0 rfl rfl)
theorem dX0_draw_27 : decode cX0_draw 27 = .ok (.ldiv, 1) := dk_109 (dk_at dksX0_draw_1 3 rfl rfl)
theorem dX0_draw_28 : decode cX0_draw 28 = .ok (.iload_n 1, 1) := dk_27 (dk_at dksX0_draw_1 4 rfl rfl)
theorem dX0_draw_29 : decode cX0_draw 29 = .ok (.i2l, 1) := dk_133 (dk_at dksX0_draw_1 5 rfl rfl)
theorem dX0_draw_30 : decode cX0_draw 30 = .ok (.lrem, 1) := dk_113 (dk_at dksX0_draw_1 6 rfl rfl)
theorem dX0_draw_31 : decode cX0_draw 31 = .ok (.l2i, 1) := dk_136 (dk_at dksX0_draw_1 7 rfl rfl)
theorem dX0_draw_32 : decode cX0_draw 32 = .ok (.ireturn, 1) := dk_172 (dk_at dksX0_draw_1 8 rfl rfl)
abbrev cX0_seed : ByteArray := prog_1_method_60_code
def yX0_seed : MethodName := ⟨RX0, "seed", "(I)Z"⟩
def dkwX0_seed_1 : List UInt8 := [4, 172]
abbrev dktX0_seed_1 : List UInt8 := dkwX0_seed_1 ++ []
def dkwX0_seed_0 : List UInt8 := [27, 156, 0, 17, 42, 8, 182, 0, 120, 155, 0, 7, 4, 167, 0, 4, 3, 172, 42, 27, 133, 181, 0, 110]
abbrev dktX0_seed_0 : List UInt8 := dkwX0_seed_0 ++ dktX0_seed_1
theorem dksX0_seed_0 : cX0_seed.data.toList.drop 0 = dktX0_seed_0 := by decide +kernel
theorem dksX0_seed_1 : cX0_seed.data.toList.drop 24 = dktX0_seed_1 := dk_seg dksX0_seed_0 24 rfl rfl
theorem dX0_seed_0 : decode cX0_seed 0 = .ok (.iload_n 1, 1) := dk_27 (dk_at dksX0_seed_0 0 rfl rfl)
theorem dX0_seed_1 : decode cX0_seed 1 = .ok (.ifCond .ge 17, 3) := dk_156 0 17 (dk_at dksX0_seed_0 1 rfl rfl)
theorem dX0_seed_4 : decode cX0_seed 4 = .ok (.aload_n 0, 1) := dk_42 (dk_at dksX0_seed_0 4 rfl rfl)
theorem dX0_seed_5 : decode cX0_seed 5 = .ok (.iconst 5, 1) := dk_8 (dk_at dksX0_seed_0 5 rfl rfl)
theorem dX0_seed_6 : decode cX0_seed 6 = .ok (.invokevirtual 120, 3) := dk_182 0 120 (dk_at dksX0_seed_0 6 rfl rfl)
theorem dX0_seed_9 : decode cX0_seed 9 = .ok (.ifCond .lt 7, 3) := dk_155 0 7 (dk_at dksX0_seed_0 9 rfl rfl)
theorem dX0_seed_12 : decode cX0_seed 12 = .ok (.iconst 1, 1) := dk_4 (dk_at dksX0_seed_0 12 rfl rfl)
theorem dX0_seed_13 : decode cX0_seed 13 = .ok (.goto 4, 3) := dk_167 0 4 (dk_at dksX0_seed_0 13 rfl rfl)
theorem dX0_seed_16 : decode cX0_seed 16 = .ok (.iconst 0, 1) := dk_3 (dk_at dksX0_seed_0 16 rfl rfl)
theorem dX0_seed_17 : decode cX0_seed 17 = .ok (.ireturn, 1) := dk_172 (dk_at dksX0_seed_0 17 rfl rfl)
theorem dX0_seed_18 : decode cX0_seed 18 = .ok (.aload_n 0, 1) := dk_42 (dk_at dksX0_seed_0 18 rfl rfl)
theorem dX0_seed_19 : decode cX0_seed 19 = .ok (.iload_n 1, 1) := dk_27 (dk_at dksX0_seed_0 19 rfl rfl)
theorem dX0_seed_20 : decode cX0_seed 20 = .ok (.i2l, 1) := dk_133 (dk_at dksX0_seed_0 20 rfl rfl)
theorem dX0_seed_21 : decode cX0_seed 21 = .ok (.putfield 110, 3) := dk_181 0 110 (dk_at dksX0_seed_0 21 rfl rfl)
theorem dX0_seed_24 : decode cX0_seed 24 = .ok (.iconst 1, 1) := dk_4 (dk_at dksX0_seed_1 0 rfl rfl)
theorem dX0_seed_25 : decode cX0_seed 25 = .ok (.ireturn, 1) := dk_172 (dk_at dksX0_seed_1 1 rfl rfl)
abbrev cX0_ask : ByteArray := prog_1_method_62_code
def yX0_ask : MethodName := ⟨RX0, "ask", "()J"⟩
def dkwX0_ask_12 : List UInt8 := [180, 1, 131, 4, 96, 181, 1, 131, 167, 255, 36, 44, 182, 1, 151, 173]
abbrev dktX0_ask_12 : List UInt8 := dkwX0_ask_12 ++ []
def dkwX0_ask_11 : List UInt8 := [42, 180, 1, 131, 182, 0, 252, 133, 80, 44, 42, 180, 1, 131, 42, 180, 0, 59, 182, 1, 145, 42, 89]
abbrev dktX0_ask_11 : List UInt8 := dkwX0_ask_11 ++ dktX0_ask_12
def dkwX0_ask_10 : List UInt8 := [180, 1, 131, 182, 1, 59, 180, 0, 235, 133, 80, 42, 180, 0, 59, 180, 1, 142, 16, 10, 42, 180, 0, 83]
abbrev dktX0_ask_10 : List UInt8 := dkwX0_ask_10 ++ dktX0_ask_11
def dkwX0_ask_9 : List UInt8 := [180, 1, 131, 182, 1, 59, 180, 0, 238, 133, 80, 42, 180, 0, 59, 180, 1, 142, 16, 9, 42, 42]
abbrev dktX0_ask_9 : List UInt8 := dkwX0_ask_9 ++ dktX0_ask_10
def dkwX0_ask_8 : List UInt8 := [42, 42, 180, 1, 131, 182, 0, 192, 180, 0, 251, 133, 80, 42, 180, 0, 59, 180, 1, 142, 16, 8, 42, 42]
abbrev dktX0_ask_8 : List UInt8 := dkwX0_ask_8 ++ dktX0_ask_9
def dkwX0_ask_7 : List UInt8 := [180, 0, 83, 180, 0, 249, 42, 180, 1, 131, 46, 8, 108, 133, 80, 42, 180, 0, 59, 180, 1, 142, 16, 7]
abbrev dktX0_ask_7 : List UInt8 := dkwX0_ask_7 ++ dktX0_ask_8
def dkwX0_ask_6 : List UInt8 := [180, 0, 249, 42, 180, 1, 131, 46, 8, 112, 133, 80, 42, 180, 0, 59, 180, 1, 142, 16, 6, 42]
abbrev dktX0_ask_6 : List UInt8 := dkwX0_ask_6 ++ dktX0_ask_7
def dkwX0_ask_5 : List UInt8 := [180, 1, 142, 7, 42, 180, 1, 131, 133, 80, 42, 180, 0, 59, 180, 1, 142, 8, 42, 180, 0, 83]
abbrev dktX0_ask_5 : List UInt8 := dkwX0_ask_5 ++ dktX0_ask_6
def dkwX0_ask_4 : List UInt8 := [167, 0, 183, 42, 180, 0, 59, 180, 1, 142, 6, 42, 180, 0, 83, 180, 0, 205, 133, 80, 42, 180, 0, 59]
abbrev dktX0_ask_4 : List UInt8 := dkwX0_ask_4 ++ dktX0_ask_5
def dkwX0_ask_3 : List UInt8 := [182, 0, 174, 162, 0, 215, 42, 180, 0, 83, 180, 0, 249, 42, 180, 1, 131, 46, 2, 160, 0, 6]
abbrev dktX0_ask_3 : List UInt8 := dkwX0_ask_3 ++ dktX0_ask_4
def dkwX0_ask_2 : List UInt8 := [42, 45, 180, 0, 144, 181, 0, 39, 20, 1, 51, 173, 42, 3, 181, 1, 131, 42, 180, 1, 131, 42]
abbrev dktX0_ask_2 : List UInt8 := dkwX0_ask_2 ++ dktX0_ask_3
def dkwX0_ask_1 : List UInt8 := [181, 0, 39, 42, 180, 0, 48, 27, 182, 1, 138, 77, 167, 0, 24, 78, 42, 45, 180, 0, 141, 181, 0, 128]
abbrev dktX0_ask_1 : List UInt8 := dkwX0_ask_1 ++ dktX0_ask_2
def dkwX0_ask_0 : List UInt8 := [42, 182, 0, 131, 60, 42, 182, 0, 211, 154, 0, 7, 20, 1, 51, 173, 42, 3, 181, 0, 128, 42, 2]
abbrev dktX0_ask_0 : List UInt8 := dkwX0_ask_0 ++ dktX0_ask_1
theorem dksX0_ask_0 : cX0_ask.data.toList.drop 0 = dktX0_ask_0 := by decide +kernel
theorem dksX0_ask_1 : cX0_ask.data.toList.drop 23 = dktX0_ask_1 := dk_seg dksX0_ask_0 23 rfl rfl
theorem dksX0_ask_2 : cX0_ask.data.toList.drop 47 = dktX0_ask_2 := dk_seg dksX0_ask_1 24 rfl rfl
theorem dksX0_ask_3 : cX0_ask.data.toList.drop 69 = dktX0_ask_3 := dk_seg dksX0_ask_2 22 rfl rfl
theorem dksX0_ask_4 : cX0_ask.data.toList.drop 91 = dktX0_ask_4 := dk_seg dksX0_ask_3 22 rfl rfl
theorem dksX0_ask_5 : cX0_ask.data.toList.drop 115 = dktX0_ask_5 := dk_seg dksX0_ask_4 24 rfl rfl
theorem dksX0_ask_6 : cX0_ask.data.toList.drop 137 = dktX0_ask_6 := dk_seg dksX0_ask_5 22 rfl rfl
theorem dksX0_ask_7 : cX0_ask.data.toList.drop 159 = dktX0_ask_7 := dk_seg dksX0_ask_6 22 rfl rfl
theorem dksX0_ask_8 : cX0_ask.data.toList.drop 183 = dktX0_ask_8 := dk_seg dksX0_ask_7 24 rfl rfl
theorem dksX0_ask_9 : cX0_ask.data.toList.drop 207 = dktX0_ask_9 := dk_seg dksX0_ask_8 24 rfl rfl
theorem dksX0_ask_10 : cX0_ask.data.toList.drop 229 = dktX0_ask_10 := dk_seg dksX0_ask_9 22 rfl rfl
theorem dksX0_ask_11 : cX0_ask.data.toList.drop 253 = dktX0_ask_11 := dk_seg dksX0_ask_10 24 rfl rfl
theorem dksX0_ask_12 : cX0_ask.data.toList.drop 276 = dktX0_ask_12 := dk_seg dksX0_ask_11 23 rfl rfl
theorem dX0_ask_0 : decode cX0_ask 0 = .ok (.aload_n 0, 1) := dk_42 (dk_at dksX0_ask_0 0 rfl rfl)
theorem dX0_ask_1 : decode cX0_ask 1 = .ok (.invokevirtual 131, 3) := dk_182 0 131 (dk_at dksX0_ask_0 1 rfl rfl)
theorem dX0_ask_4 : decode cX0_ask 4 = .ok (.istore_n 1, 1) := dk_60 (dk_at dksX0_ask_0 4 rfl rfl)
theorem dX0_ask_5 : decode cX0_ask 5 = .ok (.aload_n 0, 1) := dk_42 (dk_at dksX0_ask_0 5 rfl rfl)
theorem dX0_ask_6 : decode cX0_ask 6 = .ok (.invokevirtual 211, 3) := dk_182 0 211 (dk_at dksX0_ask_0 6 rfl rfl)
theorem dX0_ask_9 : decode cX0_ask 9 = .ok (.ifCond .ne 7, 3) := dk_154 0 7 (dk_at dksX0_ask_0 9 rfl rfl)
theorem dX0_ask_12 : decode cX0_ask 12 = .ok (.ldc2_w 307, 3) := dk_20 1 51 (dk_at dksX0_ask_0 12 rfl rfl)
theorem dX0_ask_15 : decode cX0_ask 15 = .ok (.lreturn, 1) := dk_173 (dk_at dksX0_ask_0 15 rfl rfl)
theorem dX0_ask_16 : decode cX0_ask 16 = .ok (.aload_n 0, 1) := dk_42 (dk_at dksX0_ask_0 16 rfl rfl)
theorem dX0_ask_17 : decode cX0_ask 17 = .ok (.iconst 0, 1) := dk_3 (dk_at dksX0_ask_0 17 rfl rfl)
theorem dX0_ask_18 : decode cX0_ask 18 = .ok (.putfield 128, 3) := dk_181 0 128 (dk_at dksX0_ask_0 18 rfl rfl)
theorem dX0_ask_21 : decode cX0_ask 21 = .ok (.aload_n 0, 1) := dk_42 (dk_at dksX0_ask_0 21 rfl rfl)
theorem dX0_ask_22 : decode cX0_ask 22 = .ok (.iconst (-1), 1) := dk_2 (dk_at dksX0_ask_0 22 rfl rfl)
theorem dX0_ask_23 : decode cX0_ask 23 = .ok (.putfield 39, 3) := dk_181 0 39 (dk_at dksX0_ask_1 0 rfl rfl)
theorem dX0_ask_26 : decode cX0_ask 26 = .ok (.aload_n 0, 1) := dk_42 (dk_at dksX0_ask_1 3 rfl rfl)
theorem dX0_ask_27 : decode cX0_ask 27 = .ok (.getfield 48, 3) := dk_180 0 48 (dk_at dksX0_ask_1 4 rfl rfl)
theorem dX0_ask_30 : decode cX0_ask 30 = .ok (.iload_n 1, 1) := dk_27 (dk_at dksX0_ask_1 7 rfl rfl)
theorem dX0_ask_31 : decode cX0_ask 31 = .ok (.invokevirtual 394, 3) := dk_182 1 138 (dk_at dksX0_ask_1 8 rfl rfl)
theorem dX0_ask_34 : decode cX0_ask 34 = .ok (.astore_n 2, 1) := dk_77 (dk_at dksX0_ask_1 11 rfl rfl)
theorem dX0_ask_35 : decode cX0_ask 35 = .ok (.goto 24, 3) := dk_167 0 24 (dk_at dksX0_ask_1 12 rfl rfl)
theorem dX0_ask_38 : decode cX0_ask 38 = .ok (.astore_n 3, 1) := dk_78 (dk_at dksX0_ask_1 15 rfl rfl)
theorem dX0_ask_39 : decode cX0_ask 39 = .ok (.aload_n 0, 1) := dk_42 (dk_at dksX0_ask_1 16 rfl rfl)
theorem dX0_ask_40 : decode cX0_ask 40 = .ok (.aload_n 3, 1) := dk_45 (dk_at dksX0_ask_1 17 rfl rfl)
theorem dX0_ask_41 : decode cX0_ask 41 = .ok (.getfield 141, 3) := dk_180 0 141 (dk_at dksX0_ask_1 18 rfl rfl)
theorem dX0_ask_44 : decode cX0_ask 44 = .ok (.putfield 128, 3) := dk_181 0 128 (dk_at dksX0_ask_1 21 rfl rfl)
theorem dX0_ask_47 : decode cX0_ask 47 = .ok (.aload_n 0, 1) := dk_42 (dk_at dksX0_ask_2 0 rfl rfl)
theorem dX0_ask_48 : decode cX0_ask 48 = .ok (.aload_n 3, 1) := dk_45 (dk_at dksX0_ask_2 1 rfl rfl)
theorem dX0_ask_49 : decode cX0_ask 49 = .ok (.getfield 144, 3) := dk_180 0 144 (dk_at dksX0_ask_2 2 rfl rfl)
theorem dX0_ask_52 : decode cX0_ask 52 = .ok (.putfield 39, 3) := dk_181 0 39 (dk_at dksX0_ask_2 5 rfl rfl)
theorem dX0_ask_55 : decode cX0_ask 55 = .ok (.ldc2_w 307, 3) := dk_20 1 51 (dk_at dksX0_ask_2 8 rfl rfl)
theorem dX0_ask_58 : decode cX0_ask 58 = .ok (.lreturn, 1) := dk_173 (dk_at dksX0_ask_2 11 rfl rfl)
theorem dX0_ask_59 : decode cX0_ask 59 = .ok (.aload_n 0, 1) := dk_42 (dk_at dksX0_ask_2 12 rfl rfl)
theorem dX0_ask_60 : decode cX0_ask 60 = .ok (.iconst 0, 1) := dk_3 (dk_at dksX0_ask_2 13 rfl rfl)
theorem dX0_ask_61 : decode cX0_ask 61 = .ok (.putfield 387, 3) := dk_181 1 131 (dk_at dksX0_ask_2 14 rfl rfl)
theorem dX0_ask_64 : decode cX0_ask 64 = .ok (.aload_n 0, 1) := dk_42 (dk_at dksX0_ask_2 17 rfl rfl)
theorem dX0_ask_65 : decode cX0_ask 65 = .ok (.getfield 387, 3) := dk_180 1 131 (dk_at dksX0_ask_2 18 rfl rfl)
theorem dX0_ask_68 : decode cX0_ask 68 = .ok (.aload_n 0, 1) := dk_42 (dk_at dksX0_ask_2 21 rfl rfl)
theorem dX0_ask_69 : decode cX0_ask 69 = .ok (.invokevirtual 174, 3) := dk_182 0 174 (dk_at dksX0_ask_3 0 rfl rfl)
theorem dX0_ask_72 : decode cX0_ask 72 = .ok (.if_icmp .ge 215, 3) := dk_162 0 215 (dk_at dksX0_ask_3 3 rfl rfl)
theorem dX0_ask_75 : decode cX0_ask 75 = .ok (.aload_n 0, 1) := dk_42 (dk_at dksX0_ask_3 6 rfl rfl)
theorem dX0_ask_76 : decode cX0_ask 76 = .ok (.getfield 83, 3) := dk_180 0 83 (dk_at dksX0_ask_3 7 rfl rfl)
theorem dX0_ask_79 : decode cX0_ask 79 = .ok (.getfield 249, 3) := dk_180 0 249 (dk_at dksX0_ask_3 10 rfl rfl)
theorem dX0_ask_82 : decode cX0_ask 82 = .ok (.aload_n 0, 1) := dk_42 (dk_at dksX0_ask_3 13 rfl rfl)
theorem dX0_ask_83 : decode cX0_ask 83 = .ok (.getfield 387, 3) := dk_180 1 131 (dk_at dksX0_ask_3 14 rfl rfl)
theorem dX0_ask_86 : decode cX0_ask 86 = .ok (.iaload, 1) := dk_46 (dk_at dksX0_ask_3 17 rfl rfl)
theorem dX0_ask_87 : decode cX0_ask 87 = .ok (.iconst (-1), 1) := dk_2 (dk_at dksX0_ask_3 18 rfl rfl)
theorem dX0_ask_88 : decode cX0_ask 88 = .ok (.if_icmp .ne 6, 3) := dk_160 0 6 (dk_at dksX0_ask_3 19 rfl rfl)
theorem dX0_ask_91 : decode cX0_ask 91 = .ok (.goto 183, 3) := dk_167 0 183 (dk_at dksX0_ask_4 0 rfl rfl)
theorem dX0_ask_94 : decode cX0_ask 94 = .ok (.aload_n 0, 1) := dk_42 (dk_at dksX0_ask_4 3 rfl rfl)
theorem dX0_ask_95 : decode cX0_ask 95 = .ok (.getfield 59, 3) := dk_180 0 59 (dk_at dksX0_ask_4 4 rfl rfl)
theorem dX0_ask_98 : decode cX0_ask 98 = .ok (.getfield 398, 3) := dk_180 1 142 (dk_at dksX0_ask_4 7 rfl rfl)
theorem dX0_ask_101 : decode cX0_ask 101 = .ok (.iconst 3, 1) := dk_6 (dk_at dksX0_ask_4 10 rfl rfl)
theorem dX0_ask_102 : decode cX0_ask 102 = .ok (.aload_n 0, 1) := dk_42 (dk_at dksX0_ask_4 11 rfl rfl)
theorem dX0_ask_103 : decode cX0_ask 103 = .ok (.getfield 83, 3) := dk_180 0 83 (dk_at dksX0_ask_4 12 rfl rfl)
theorem dX0_ask_106 : decode cX0_ask 106 = .ok (.getfield 205, 3) := dk_180 0 205 (dk_at dksX0_ask_4 15 rfl rfl)
theorem dX0_ask_109 : decode cX0_ask 109 = .ok (.i2l, 1) := dk_133 (dk_at dksX0_ask_4 18 rfl rfl)
theorem dX0_ask_110 : decode cX0_ask 110 = .ok (.lastore, 1) := dk_80 (dk_at dksX0_ask_4 19 rfl rfl)
theorem dX0_ask_111 : decode cX0_ask 111 = .ok (.aload_n 0, 1) := dk_42 (dk_at dksX0_ask_4 20 rfl rfl)
theorem dX0_ask_112 : decode cX0_ask 112 = .ok (.getfield 59, 3) := dk_180 0 59 (dk_at dksX0_ask_4 21 rfl rfl)
theorem dX0_ask_115 : decode cX0_ask 115 = .ok (.getfield 398, 3) := dk_180 1 142 (dk_at dksX0_ask_5 0 rfl rfl)
theorem dX0_ask_118 : decode cX0_ask 118 = .ok (.iconst 4, 1) := dk_7 (dk_at dksX0_ask_5 3 rfl rfl)
theorem dX0_ask_119 : decode cX0_ask 119 = .ok (.aload_n 0, 1) := dk_42 (dk_at dksX0_ask_5 4 rfl rfl)
theorem dX0_ask_120 : decode cX0_ask 120 = .ok (.getfield 387, 3) := dk_180 1 131 (dk_at dksX0_ask_5 5 rfl rfl)
theorem dX0_ask_123 : decode cX0_ask 123 = .ok (.i2l, 1) := dk_133 (dk_at dksX0_ask_5 8 rfl rfl)
theorem dX0_ask_124 : decode cX0_ask 124 = .ok (.lastore, 1) := dk_80 (dk_at dksX0_ask_5 9 rfl rfl)
theorem dX0_ask_125 : decode cX0_ask 125 = .ok (.aload_n 0, 1) := dk_42 (dk_at dksX0_ask_5 10 rfl rfl)
theorem dX0_ask_126 : decode cX0_ask 126 = .ok (.getfield 59, 3) := dk_180 0 59 (dk_at dksX0_ask_5 11 rfl rfl)
theorem dX0_ask_129 : decode cX0_ask 129 = .ok (.getfield 398, 3) := dk_180 1 142 (dk_at dksX0_ask_5 14 rfl rfl)
theorem dX0_ask_132 : decode cX0_ask 132 = .ok (.iconst 5, 1) := dk_8 (dk_at dksX0_ask_5 17 rfl rfl)
theorem dX0_ask_133 : decode cX0_ask 133 = .ok (.aload_n 0, 1) := dk_42 (dk_at dksX0_ask_5 18 rfl rfl)
theorem dX0_ask_134 : decode cX0_ask 134 = .ok (.getfield 83, 3) := dk_180 0 83 (dk_at dksX0_ask_5 19 rfl rfl)
theorem dX0_ask_137 : decode cX0_ask 137 = .ok (.getfield 249, 3) := dk_180 0 249 (dk_at dksX0_ask_6 0 rfl rfl)
theorem dX0_ask_140 : decode cX0_ask 140 = .ok (.aload_n 0, 1) := dk_42 (dk_at dksX0_ask_6 3 rfl rfl)
theorem dX0_ask_141 : decode cX0_ask 141 = .ok (.getfield 387, 3) := dk_180 1 131 (dk_at dksX0_ask_6 4 rfl rfl)
theorem dX0_ask_144 : decode cX0_ask 144 = .ok (.iaload, 1) := dk_46 (dk_at dksX0_ask_6 7 rfl rfl)
theorem dX0_ask_145 : decode cX0_ask 145 = .ok (.iconst 5, 1) := dk_8 (dk_at dksX0_ask_6 8 rfl rfl)
theorem dX0_ask_146 : decode cX0_ask 146 = .ok (.irem, 1) := dk_112 (dk_at dksX0_ask_6 9 rfl rfl)
theorem dX0_ask_147 : decode cX0_ask 147 = .ok (.i2l, 1) := dk_133 (dk_at dksX0_ask_6 10 rfl rfl)
theorem dX0_ask_148 : decode cX0_ask 148 = .ok (.lastore, 1) := dk_80 (dk_at dksX0_ask_6 11 rfl rfl)
theorem dX0_ask_149 : decode cX0_ask 149 = .ok (.aload_n 0, 1) := dk_42 (dk_at dksX0_ask_6 12 rfl rfl)
theorem dX0_ask_150 : decode cX0_ask 150 = .ok (.getfield 59, 3) := dk_180 0 59 (dk_at dksX0_ask_6 13 rfl rfl)
theorem dX0_ask_153 : decode cX0_ask 153 = .ok (.getfield 398, 3) := dk_180 1 142 (dk_at dksX0_ask_6 16 rfl rfl)
theorem dX0_ask_156 : decode cX0_ask 156 = .ok (.bipush 6, 2) := dk_16 6 (dk_at dksX0_ask_6 19 rfl rfl)
theorem dX0_ask_158 : decode cX0_ask 158 = .ok (.aload_n 0, 1) := dk_42 (dk_at dksX0_ask_6 21 rfl rfl)
theorem dX0_ask_159 : decode cX0_ask 159 = .ok (.getfield 83, 3) := dk_180 0 83 (dk_at dksX0_ask_7 0 rfl rfl)
theorem dX0_ask_162 : decode cX0_ask 162 = .ok (.getfield 249, 3) := dk_180 0 249 (dk_at dksX0_ask_7 3 rfl rfl)
theorem dX0_ask_165 : decode cX0_ask 165 = .ok (.aload_n 0, 1) := dk_42 (dk_at dksX0_ask_7 6 rfl rfl)
theorem dX0_ask_166 : decode cX0_ask 166 = .ok (.getfield 387, 3) := dk_180 1 131 (dk_at dksX0_ask_7 7 rfl rfl)
theorem dX0_ask_169 : decode cX0_ask 169 = .ok (.iaload, 1) := dk_46 (dk_at dksX0_ask_7 10 rfl rfl)
theorem dX0_ask_170 : decode cX0_ask 170 = .ok (.iconst 5, 1) := dk_8 (dk_at dksX0_ask_7 11 rfl rfl)
theorem dX0_ask_171 : decode cX0_ask 171 = .ok (.idiv, 1) := dk_108 (dk_at dksX0_ask_7 12 rfl rfl)
theorem dX0_ask_172 : decode cX0_ask 172 = .ok (.i2l, 1) := dk_133 (dk_at dksX0_ask_7 13 rfl rfl)
theorem dX0_ask_173 : decode cX0_ask 173 = .ok (.lastore, 1) := dk_80 (dk_at dksX0_ask_7 14 rfl rfl)
theorem dX0_ask_174 : decode cX0_ask 174 = .ok (.aload_n 0, 1) := dk_42 (dk_at dksX0_ask_7 15 rfl rfl)
theorem dX0_ask_175 : decode cX0_ask 175 = .ok (.getfield 59, 3) := dk_180 0 59 (dk_at dksX0_ask_7 16 rfl rfl)
theorem dX0_ask_178 : decode cX0_ask 178 = .ok (.getfield 398, 3) := dk_180 1 142 (dk_at dksX0_ask_7 19 rfl rfl)
theorem dX0_ask_181 : decode cX0_ask 181 = .ok (.bipush 7, 2) := dk_16 7 (dk_at dksX0_ask_7 22 rfl rfl)
theorem dX0_ask_183 : decode cX0_ask 183 = .ok (.aload_n 0, 1) := dk_42 (dk_at dksX0_ask_8 0 rfl rfl)
theorem dX0_ask_184 : decode cX0_ask 184 = .ok (.aload_n 0, 1) := dk_42 (dk_at dksX0_ask_8 1 rfl rfl)
theorem dX0_ask_185 : decode cX0_ask 185 = .ok (.getfield 387, 3) := dk_180 1 131 (dk_at dksX0_ask_8 2 rfl rfl)
theorem dX0_ask_188 : decode cX0_ask 188 = .ok (.invokevirtual 192, 3) := dk_182 0 192 (dk_at dksX0_ask_8 5 rfl rfl)
theorem dX0_ask_191 : decode cX0_ask 191 = .ok (.getfield 251, 3) := dk_180 0 251 (dk_at dksX0_ask_8 8 rfl rfl)
theorem dX0_ask_194 : decode cX0_ask 194 = .ok (.i2l, 1) := dk_133 (dk_at dksX0_ask_8 11 rfl rfl)
theorem dX0_ask_195 : decode cX0_ask 195 = .ok (.lastore, 1) := dk_80 (dk_at dksX0_ask_8 12 rfl rfl)
theorem dX0_ask_196 : decode cX0_ask 196 = .ok (.aload_n 0, 1) := dk_42 (dk_at dksX0_ask_8 13 rfl rfl)
theorem dX0_ask_197 : decode cX0_ask 197 = .ok (.getfield 59, 3) := dk_180 0 59 (dk_at dksX0_ask_8 14 rfl rfl)
theorem dX0_ask_200 : decode cX0_ask 200 = .ok (.getfield 398, 3) := dk_180 1 142 (dk_at dksX0_ask_8 17 rfl rfl)
theorem dX0_ask_203 : decode cX0_ask 203 = .ok (.bipush 8, 2) := dk_16 8 (dk_at dksX0_ask_8 20 rfl rfl)
theorem dX0_ask_205 : decode cX0_ask 205 = .ok (.aload_n 0, 1) := dk_42 (dk_at dksX0_ask_8 22 rfl rfl)
theorem dX0_ask_206 : decode cX0_ask 206 = .ok (.aload_n 0, 1) := dk_42 (dk_at dksX0_ask_8 23 rfl rfl)
theorem dX0_ask_207 : decode cX0_ask 207 = .ok (.getfield 387, 3) := dk_180 1 131 (dk_at dksX0_ask_9 0 rfl rfl)
theorem dX0_ask_210 : decode cX0_ask 210 = .ok (.invokevirtual 315, 3) := dk_182 1 59 (dk_at dksX0_ask_9 3 rfl rfl)
theorem dX0_ask_213 : decode cX0_ask 213 = .ok (.getfield 238, 3) := dk_180 0 238 (dk_at dksX0_ask_9 6 rfl rfl)
theorem dX0_ask_216 : decode cX0_ask 216 = .ok (.i2l, 1) := dk_133 (dk_at dksX0_ask_9 9 rfl rfl)
theorem dX0_ask_217 : decode cX0_ask 217 = .ok (.lastore, 1) := dk_80 (dk_at dksX0_ask_9 10 rfl rfl)
theorem dX0_ask_218 : decode cX0_ask 218 = .ok (.aload_n 0, 1) := dk_42 (dk_at dksX0_ask_9 11 rfl rfl)
theorem dX0_ask_219 : decode cX0_ask 219 = .ok (.getfield 59, 3) := dk_180 0 59 (dk_at dksX0_ask_9 12 rfl rfl)
theorem dX0_ask_222 : decode cX0_ask 222 = .ok (.getfield 398, 3) := dk_180 1 142 (dk_at dksX0_ask_9 15 rfl rfl)
theorem dX0_ask_225 : decode cX0_ask 225 = .ok (.bipush 9, 2) := dk_16 9 (dk_at dksX0_ask_9 18 rfl rfl)
theorem dX0_ask_227 : decode cX0_ask 227 = .ok (.aload_n 0, 1) := dk_42 (dk_at dksX0_ask_9 20 rfl rfl)
theorem dX0_ask_228 : decode cX0_ask 228 = .ok (.aload_n 0, 1) := dk_42 (dk_at dksX0_ask_9 21 rfl rfl)
theorem dX0_ask_229 : decode cX0_ask 229 = .ok (.getfield 387, 3) := dk_180 1 131 (dk_at dksX0_ask_10 0 rfl rfl)
theorem dX0_ask_232 : decode cX0_ask 232 = .ok (.invokevirtual 315, 3) := dk_182 1 59 (dk_at dksX0_ask_10 3 rfl rfl)
theorem dX0_ask_235 : decode cX0_ask 235 = .ok (.getfield 235, 3) := dk_180 0 235 (dk_at dksX0_ask_10 6 rfl rfl)
theorem dX0_ask_238 : decode cX0_ask 238 = .ok (.i2l, 1) := dk_133 (dk_at dksX0_ask_10 9 rfl rfl)
theorem dX0_ask_239 : decode cX0_ask 239 = .ok (.lastore, 1) := dk_80 (dk_at dksX0_ask_10 10 rfl rfl)
theorem dX0_ask_240 : decode cX0_ask 240 = .ok (.aload_n 0, 1) := dk_42 (dk_at dksX0_ask_10 11 rfl rfl)
theorem dX0_ask_241 : decode cX0_ask 241 = .ok (.getfield 59, 3) := dk_180 0 59 (dk_at dksX0_ask_10 12 rfl rfl)
theorem dX0_ask_244 : decode cX0_ask 244 = .ok (.getfield 398, 3) := dk_180 1 142 (dk_at dksX0_ask_10 15 rfl rfl)
theorem dX0_ask_247 : decode cX0_ask 247 = .ok (.bipush 10, 2) := dk_16 10 (dk_at dksX0_ask_10 18 rfl rfl)
theorem dX0_ask_249 : decode cX0_ask 249 = .ok (.aload_n 0, 1) := dk_42 (dk_at dksX0_ask_10 20 rfl rfl)
theorem dX0_ask_250 : decode cX0_ask 250 = .ok (.getfield 83, 3) := dk_180 0 83 (dk_at dksX0_ask_10 21 rfl rfl)
theorem dX0_ask_253 : decode cX0_ask 253 = .ok (.aload_n 0, 1) := dk_42 (dk_at dksX0_ask_11 0 rfl rfl)
theorem dX0_ask_254 : decode cX0_ask 254 = .ok (.getfield 387, 3) := dk_180 1 131 (dk_at dksX0_ask_11 1 rfl rfl)
theorem dX0_ask_257 : decode cX0_ask 257 = .ok (.invokevirtual 252, 3) := dk_182 0 252 (dk_at dksX0_ask_11 4 rfl rfl)
theorem dX0_ask_260 : decode cX0_ask 260 = .ok (.i2l, 1) := dk_133 (dk_at dksX0_ask_11 7 rfl rfl)
theorem dX0_ask_261 : decode cX0_ask 261 = .ok (.lastore, 1) := dk_80 (dk_at dksX0_ask_11 8 rfl rfl)
theorem dX0_ask_262 : decode cX0_ask 262 = .ok (.aload_n 2, 1) := dk_44 (dk_at dksX0_ask_11 9 rfl rfl)
theorem dX0_ask_263 : decode cX0_ask 263 = .ok (.aload_n 0, 1) := dk_42 (dk_at dksX0_ask_11 10 rfl rfl)
theorem dX0_ask_264 : decode cX0_ask 264 = .ok (.getfield 387, 3) := dk_180 1 131 (dk_at dksX0_ask_11 11 rfl rfl)
theorem dX0_ask_267 : decode cX0_ask 267 = .ok (.aload_n 0, 1) := dk_42 (dk_at dksX0_ask_11 14 rfl rfl)
theorem dX0_ask_268 : decode cX0_ask 268 = .ok (.getfield 59, 3) := dk_180 0 59 (dk_at dksX0_ask_11 15 rfl rfl)
theorem dX0_ask_271 : decode cX0_ask 271 = .ok (.invokevirtual 401, 3) := dk_182 1 145 (dk_at dksX0_ask_11 18 rfl rfl)
theorem dX0_ask_274 : decode cX0_ask 274 = .ok (.aload_n 0, 1) := dk_42 (dk_at dksX0_ask_11 21 rfl rfl)
theorem dX0_ask_275 : decode cX0_ask 275 = .ok (.dup, 1) := dk_89 (dk_at dksX0_ask_11 22 rfl rfl)
theorem dX0_ask_276 : decode cX0_ask 276 = .ok (.getfield 387, 3) := dk_180 1 131 (dk_at dksX0_ask_12 0 rfl rfl)
theorem dX0_ask_279 : decode cX0_ask 279 = .ok (.iconst 1, 1) := dk_4 (dk_at dksX0_ask_12 3 rfl rfl)
theorem dX0_ask_280 : decode cX0_ask 280 = .ok (.iadd, 1) := dk_96 (dk_at dksX0_ask_12 4 rfl rfl)
theorem dX0_ask_281 : decode cX0_ask 281 = .ok (.putfield 387, 3) := dk_181 1 131 (dk_at dksX0_ask_12 5 rfl rfl)
theorem dX0_ask_284 : decode cX0_ask 284 = .ok (.goto (-220), 3) := dk_167 255 36 (dk_at dksX0_ask_12 8 rfl rfl)
theorem dX0_ask_287 : decode cX0_ask 287 = .ok (.aload_n 2, 1) := dk_44 (dk_at dksX0_ask_12 11 rfl rfl)
theorem dX0_ask_288 : decode cX0_ask 288 = .ok (.invokevirtual 407, 3) := dk_182 1 151 (dk_at dksX0_ask_12 12 rfl rfl)
theorem dX0_ask_291 : decode cX0_ask 291 = .ok (.lreturn, 1) := dk_173 (dk_at dksX0_ask_12 15 rfl rfl)
abbrev cX0_image : ByteArray := prog_1_method_65_code
def yX0_image : MethodName := ⟨RX0, "image", "()I"⟩
def dkwX0_image_7 : List UInt8 := [167, 255, 216, 42, 42, 180, 0, 114, 42, 180, 1, 155, 184, 1, 161, 182, 1, 158, 42, 180, 1, 155, 172]
abbrev dktX0_image_7 : List UInt8 := dkwX0_image_7 ++ []
def dkwX0_image_6 : List UInt8 := [27, 46, 16, 8, 122, 182, 1, 158, 42, 42, 180, 0, 83, 180, 1, 10, 27, 46, 182, 1, 158, 132, 1, 1]
abbrev dktX0_image_6 : List UInt8 := dkwX0_image_6 ++ dktX0_image_7
def dkwX0_image_5 : List UInt8 := [132, 1, 1, 167, 255, 177, 3, 60, 27, 42, 182, 0, 176, 162, 0, 38, 42, 42, 180, 0, 83, 180, 1, 10]
abbrev dktX0_image_5 : List UInt8 := dkwX0_image_5 ++ dktX0_image_6
def dkwX0_image_4 : List UInt8 := [160, 0, 9, 17, 0, 255, 167, 0, 14, 42, 180, 0, 83, 180, 0, 249, 27, 46, 8, 108, 182, 1, 158]
abbrev dktX0_image_4 : List UInt8 := dkwX0_image_4 ++ dktX0_image_5
def dkwX0_image_3 : List UInt8 := [180, 0, 83, 180, 0, 249, 27, 46, 8, 112, 182, 1, 158, 42, 42, 180, 0, 83, 180, 0, 249, 27, 46, 2]
abbrev dktX0_image_3 : List UInt8 := dkwX0_image_3 ++ dktX0_image_4
def dkwX0_image_2 : List UInt8 := [162, 0, 77, 42, 42, 180, 0, 83, 180, 0, 249, 27, 46, 2, 160, 0, 9, 17, 0, 255, 167, 0, 14, 42]
abbrev dktX0_image_2 : List UInt8 := dkwX0_image_2 ++ dktX0_image_3
def dkwX0_image_1 : List UInt8 := [180, 0, 205, 182, 1, 158, 42, 42, 180, 0, 83, 180, 0, 208, 182, 1, 158, 3, 60, 27, 42, 182, 0, 174]
abbrev dktX0_image_1 : List UInt8 := dkwX0_image_1 ++ dktX0_image_2
def dkwX0_image_0 : List UInt8 := [42, 3, 181, 1, 155, 42, 42, 180, 0, 83, 180, 0, 205, 16, 8, 122, 182, 1, 158, 42, 42, 180, 0, 83]
abbrev dktX0_image_0 : List UInt8 := dkwX0_image_0 ++ dktX0_image_1
theorem dksX0_image_0 : cX0_image.data.toList.drop 0 = dktX0_image_0 := by decide +kernel
theorem dksX0_image_1 : cX0_image.data.toList.drop 24 = dktX0_image_1 := dk_seg dksX0_image_0 24 rfl rfl
theorem dksX0_image_2 : cX0_image.data.toList.drop 48 = dktX0_image_2 := dk_seg dksX0_image_1 24 rfl rfl
theorem dksX0_image_3 : cX0_image.data.toList.drop 72 = dktX0_image_3 := dk_seg dksX0_image_2 24 rfl rfl
theorem dksX0_image_4 : cX0_image.data.toList.drop 96 = dktX0_image_4 := dk_seg dksX0_image_3 24 rfl rfl
theorem dksX0_image_5 : cX0_image.data.toList.drop 119 = dktX0_image_5 := dk_seg dksX0_image_4 23 rfl rfl
theorem dksX0_image_6 : cX0_image.data.toList.drop 143 = dktX0_image_6 := dk_seg dksX0_image_5 24 rfl rfl
theorem dksX0_image_7 : cX0_image.data.toList.drop 167 = dktX0_image_7 := dk_seg dksX0_image_6 24 rfl rfl
theorem dX0_image_0 : decode cX0_image 0 = .ok (.aload_n 0, 1) := dk_42 (dk_at dksX0_image_0 0 rfl rfl)
theorem dX0_image_1 : decode cX0_image 1 = .ok (.iconst 0, 1) := dk_3 (dk_at dksX0_image_0 1 rfl rfl)
theorem dX0_image_2 : decode cX0_image 2 = .ok (.putfield 411, 3) := dk_181 1 155 (dk_at dksX0_image_0 2 rfl rfl)
theorem dX0_image_5 : decode cX0_image 5 = .ok (.aload_n 0, 1) := dk_42 (dk_at dksX0_image_0 5 rfl rfl)
theorem dX0_image_6 : decode cX0_image 6 = .ok (.aload_n 0, 1) := dk_42 (dk_at dksX0_image_0 6 rfl rfl)
theorem dX0_image_7 : decode cX0_image 7 = .ok (.getfield 83, 3) := dk_180 0 83 (dk_at dksX0_image_0 7 rfl rfl)
theorem dX0_image_10 : decode cX0_image 10 = .ok (.getfield 205, 3) := dk_180 0 205 (dk_at dksX0_image_0 10 rfl rfl)
theorem dX0_image_13 : decode cX0_image 13 = .ok (.bipush 8, 2) := dk_16 8 (dk_at dksX0_image_0 13 rfl rfl)
theorem dX0_image_15 : decode cX0_image 15 = .ok (.ishr, 1) := dk_122 (dk_at dksX0_image_0 15 rfl rfl)
theorem dX0_image_16 : decode cX0_image 16 = .ok (.invokevirtual 414, 3) := dk_182 1 158 (dk_at dksX0_image_0 16 rfl rfl)
theorem dX0_image_19 : decode cX0_image 19 = .ok (.aload_n 0, 1) := dk_42 (dk_at dksX0_image_0 19 rfl rfl)
theorem dX0_image_20 : decode cX0_image 20 = .ok (.aload_n 0, 1) := dk_42 (dk_at dksX0_image_0 20 rfl rfl)
theorem dX0_image_21 : decode cX0_image 21 = .ok (.getfield 83, 3) := dk_180 0 83 (dk_at dksX0_image_0 21 rfl rfl)
theorem dX0_image_24 : decode cX0_image 24 = .ok (.getfield 205, 3) := dk_180 0 205 (dk_at dksX0_image_1 0 rfl rfl)
theorem dX0_image_27 : decode cX0_image 27 = .ok (.invokevirtual 414, 3) := dk_182 1 158 (dk_at dksX0_image_1 3 rfl rfl)
theorem dX0_image_30 : decode cX0_image 30 = .ok (.aload_n 0, 1) := dk_42 (dk_at dksX0_image_1 6 rfl rfl)
theorem dX0_image_31 : decode cX0_image 31 = .ok (.aload_n 0, 1) := dk_42 (dk_at dksX0_image_1 7 rfl rfl)
theorem dX0_image_32 : decode cX0_image 32 = .ok (.getfield 83, 3) := dk_180 0 83 (dk_at dksX0_image_1 8 rfl rfl)
theorem dX0_image_35 : decode cX0_image 35 = .ok (.getfield 208, 3) := dk_180 0 208 (dk_at dksX0_image_1 11 rfl rfl)
theorem dX0_image_38 : decode cX0_image 38 = .ok (.invokevirtual 414, 3) := dk_182 1 158 (dk_at dksX0_image_1 14 rfl rfl)
theorem dX0_image_41 : decode cX0_image 41 = .ok (.iconst 0, 1) := dk_3 (dk_at dksX0_image_1 17 rfl rfl)
theorem dX0_image_42 : decode cX0_image 42 = .ok (.istore_n 1, 1) := dk_60 (dk_at dksX0_image_1 18 rfl rfl)
theorem dX0_image_43 : decode cX0_image 43 = .ok (.iload_n 1, 1) := dk_27 (dk_at dksX0_image_1 19 rfl rfl)
theorem dX0_image_44 : decode cX0_image 44 = .ok (.aload_n 0, 1) := dk_42 (dk_at dksX0_image_1 20 rfl rfl)
theorem dX0_image_45 : decode cX0_image 45 = .ok (.invokevirtual 174, 3) := dk_182 0 174 (dk_at dksX0_image_1 21 rfl rfl)
theorem dX0_image_48 : decode cX0_image 48 = .ok (.if_icmp .ge 77, 3) := dk_162 0 77 (dk_at dksX0_image_2 0 rfl rfl)
theorem dX0_image_51 : decode cX0_image 51 = .ok (.aload_n 0, 1) := dk_42 (dk_at dksX0_image_2 3 rfl rfl)
theorem dX0_image_52 : decode cX0_image 52 = .ok (.aload_n 0, 1) := dk_42 (dk_at dksX0_image_2 4 rfl rfl)
theorem dX0_image_53 : decode cX0_image 53 = .ok (.getfield 83, 3) := dk_180 0 83 (dk_at dksX0_image_2 5 rfl rfl)
theorem dX0_image_56 : decode cX0_image 56 = .ok (.getfield 249, 3) := dk_180 0 249 (dk_at dksX0_image_2 8 rfl rfl)
theorem dX0_image_59 : decode cX0_image 59 = .ok (.iload_n 1, 1) := dk_27 (dk_at dksX0_image_2 11 rfl rfl)
theorem dX0_image_60 : decode cX0_image 60 = .ok (.iaload, 1) := dk_46 (dk_at dksX0_image_2 12 rfl rfl)
theorem dX0_image_61 : decode cX0_image 61 = .ok (.iconst (-1), 1) := dk_2 (dk_at dksX0_image_2 13 rfl rfl)
theorem dX0_image_62 : decode cX0_image 62 = .ok (.if_icmp .ne 9, 3) := dk_160 0 9 (dk_at dksX0_image_2 14 rfl rfl)
theorem dX0_image_65 : decode cX0_image 65 = .ok (.sipush 255, 3) := dk_17 0 255 (dk_at dksX0_image_2 17 rfl rfl)
theorem dX0_image_68 : decode cX0_image 68 = .ok (.goto 14, 3) := dk_167 0 14 (dk_at dksX0_image_2 20 rfl rfl)
theorem dX0_image_71 : decode cX0_image 71 = .ok (.aload_n 0, 1) := dk_42 (dk_at dksX0_image_2 23 rfl rfl)
theorem dX0_image_72 : decode cX0_image 72 = .ok (.getfield 83, 3) := dk_180 0 83 (dk_at dksX0_image_3 0 rfl rfl)
theorem dX0_image_75 : decode cX0_image 75 = .ok (.getfield 249, 3) := dk_180 0 249 (dk_at dksX0_image_3 3 rfl rfl)
theorem dX0_image_78 : decode cX0_image 78 = .ok (.iload_n 1, 1) := dk_27 (dk_at dksX0_image_3 6 rfl rfl)
theorem dX0_image_79 : decode cX0_image 79 = .ok (.iaload, 1) := dk_46 (dk_at dksX0_image_3 7 rfl rfl)
theorem dX0_image_80 : decode cX0_image 80 = .ok (.iconst 5, 1) := dk_8 (dk_at dksX0_image_3 8 rfl rfl)
theorem dX0_image_81 : decode cX0_image 81 = .ok (.irem, 1) := dk_112 (dk_at dksX0_image_3 9 rfl rfl)
theorem dX0_image_82 : decode cX0_image 82 = .ok (.invokevirtual 414, 3) := dk_182 1 158 (dk_at dksX0_image_3 10 rfl rfl)
theorem dX0_image_85 : decode cX0_image 85 = .ok (.aload_n 0, 1) := dk_42 (dk_at dksX0_image_3 13 rfl rfl)
theorem dX0_image_86 : decode cX0_image 86 = .ok (.aload_n 0, 1) := dk_42 (dk_at dksX0_image_3 14 rfl rfl)
theorem dX0_image_87 : decode cX0_image 87 = .ok (.getfield 83, 3) := dk_180 0 83 (dk_at dksX0_image_3 15 rfl rfl)
theorem dX0_image_90 : decode cX0_image 90 = .ok (.getfield 249, 3) := dk_180 0 249 (dk_at dksX0_image_3 18 rfl rfl)
theorem dX0_image_93 : decode cX0_image 93 = .ok (.iload_n 1, 1) := dk_27 (dk_at dksX0_image_3 21 rfl rfl)
theorem dX0_image_94 : decode cX0_image 94 = .ok (.iaload, 1) := dk_46 (dk_at dksX0_image_3 22 rfl rfl)
theorem dX0_image_95 : decode cX0_image 95 = .ok (.iconst (-1), 1) := dk_2 (dk_at dksX0_image_3 23 rfl rfl)
theorem dX0_image_96 : decode cX0_image 96 = .ok (.if_icmp .ne 9, 3) := dk_160 0 9 (dk_at dksX0_image_4 0 rfl rfl)
theorem dX0_image_99 : decode cX0_image 99 = .ok (.sipush 255, 3) := dk_17 0 255 (dk_at dksX0_image_4 3 rfl rfl)
theorem dX0_image_102 : decode cX0_image 102 = .ok (.goto 14, 3) := dk_167 0 14 (dk_at dksX0_image_4 6 rfl rfl)
theorem dX0_image_105 : decode cX0_image 105 = .ok (.aload_n 0, 1) := dk_42 (dk_at dksX0_image_4 9 rfl rfl)
theorem dX0_image_106 : decode cX0_image 106 = .ok (.getfield 83, 3) := dk_180 0 83 (dk_at dksX0_image_4 10 rfl rfl)
theorem dX0_image_109 : decode cX0_image 109 = .ok (.getfield 249, 3) := dk_180 0 249 (dk_at dksX0_image_4 13 rfl rfl)
theorem dX0_image_112 : decode cX0_image 112 = .ok (.iload_n 1, 1) := dk_27 (dk_at dksX0_image_4 16 rfl rfl)
theorem dX0_image_113 : decode cX0_image 113 = .ok (.iaload, 1) := dk_46 (dk_at dksX0_image_4 17 rfl rfl)
theorem dX0_image_114 : decode cX0_image 114 = .ok (.iconst 5, 1) := dk_8 (dk_at dksX0_image_4 18 rfl rfl)
theorem dX0_image_115 : decode cX0_image 115 = .ok (.idiv, 1) := dk_108 (dk_at dksX0_image_4 19 rfl rfl)
theorem dX0_image_116 : decode cX0_image 116 = .ok (.invokevirtual 414, 3) := dk_182 1 158 (dk_at dksX0_image_4 20 rfl rfl)
theorem dX0_image_119 : decode cX0_image 119 = .ok (.iinc 1 1, 3) := dk_132 1 1 (dk_at dksX0_image_5 0 rfl rfl)
theorem dX0_image_122 : decode cX0_image 122 = .ok (.goto (-79), 3) := dk_167 255 177 (dk_at dksX0_image_5 3 rfl rfl)
theorem dX0_image_125 : decode cX0_image 125 = .ok (.iconst 0, 1) := dk_3 (dk_at dksX0_image_5 6 rfl rfl)
theorem dX0_image_126 : decode cX0_image 126 = .ok (.istore_n 1, 1) := dk_60 (dk_at dksX0_image_5 7 rfl rfl)
theorem dX0_image_127 : decode cX0_image 127 = .ok (.iload_n 1, 1) := dk_27 (dk_at dksX0_image_5 8 rfl rfl)
theorem dX0_image_128 : decode cX0_image 128 = .ok (.aload_n 0, 1) := dk_42 (dk_at dksX0_image_5 9 rfl rfl)
theorem dX0_image_129 : decode cX0_image 129 = .ok (.invokevirtual 176, 3) := dk_182 0 176 (dk_at dksX0_image_5 10 rfl rfl)
theorem dX0_image_132 : decode cX0_image 132 = .ok (.if_icmp .ge 38, 3) := dk_162 0 38 (dk_at dksX0_image_5 13 rfl rfl)
theorem dX0_image_135 : decode cX0_image 135 = .ok (.aload_n 0, 1) := dk_42 (dk_at dksX0_image_5 16 rfl rfl)
theorem dX0_image_136 : decode cX0_image 136 = .ok (.aload_n 0, 1) := dk_42 (dk_at dksX0_image_5 17 rfl rfl)
theorem dX0_image_137 : decode cX0_image 137 = .ok (.getfield 83, 3) := dk_180 0 83 (dk_at dksX0_image_5 18 rfl rfl)
theorem dX0_image_140 : decode cX0_image 140 = .ok (.getfield 266, 3) := dk_180 1 10 (dk_at dksX0_image_5 21 rfl rfl)
theorem dX0_image_143 : decode cX0_image 143 = .ok (.iload_n 1, 1) := dk_27 (dk_at dksX0_image_6 0 rfl rfl)
theorem dX0_image_144 : decode cX0_image 144 = .ok (.iaload, 1) := dk_46 (dk_at dksX0_image_6 1 rfl rfl)
theorem dX0_image_145 : decode cX0_image 145 = .ok (.bipush 8, 2) := dk_16 8 (dk_at dksX0_image_6 2 rfl rfl)
theorem dX0_image_147 : decode cX0_image 147 = .ok (.ishr, 1) := dk_122 (dk_at dksX0_image_6 4 rfl rfl)
theorem dX0_image_148 : decode cX0_image 148 = .ok (.invokevirtual 414, 3) := dk_182 1 158 (dk_at dksX0_image_6 5 rfl rfl)
theorem dX0_image_151 : decode cX0_image 151 = .ok (.aload_n 0, 1) := dk_42 (dk_at dksX0_image_6 8 rfl rfl)
theorem dX0_image_152 : decode cX0_image 152 = .ok (.aload_n 0, 1) := dk_42 (dk_at dksX0_image_6 9 rfl rfl)
theorem dX0_image_153 : decode cX0_image 153 = .ok (.getfield 83, 3) := dk_180 0 83 (dk_at dksX0_image_6 10 rfl rfl)
theorem dX0_image_156 : decode cX0_image 156 = .ok (.getfield 266, 3) := dk_180 1 10 (dk_at dksX0_image_6 13 rfl rfl)
theorem dX0_image_159 : decode cX0_image 159 = .ok (.iload_n 1, 1) := dk_27 (dk_at dksX0_image_6 16 rfl rfl)
theorem dX0_image_160 : decode cX0_image 160 = .ok (.iaload, 1) := dk_46 (dk_at dksX0_image_6 17 rfl rfl)
theorem dX0_image_161 : decode cX0_image 161 = .ok (.invokevirtual 414, 3) := dk_182 1 158 (dk_at dksX0_image_6 18 rfl rfl)
theorem dX0_image_164 : decode cX0_image 164 = .ok (.iinc 1 1, 3) := dk_132 1 1 (dk_at dksX0_image_6 21 rfl rfl)
theorem dX0_image_167 : decode cX0_image 167 = .ok (.goto (-40), 3) := dk_167 255 216 (dk_at dksX0_image_7 0 rfl rfl)
theorem dX0_image_170 : decode cX0_image 170 = .ok (.aload_n 0, 1) := dk_42 (dk_at dksX0_image_7 3 rfl rfl)
theorem dX0_image_171 : decode cX0_image 171 = .ok (.aload_n 0, 1) := dk_42 (dk_at dksX0_image_7 4 rfl rfl)
theorem dX0_image_172 : decode cX0_image 172 = .ok (.getfield 114, 3) := dk_180 0 114 (dk_at dksX0_image_7 5 rfl rfl)
theorem dX0_image_175 : decode cX0_image 175 = .ok (.aload_n 0, 1) := dk_42 (dk_at dksX0_image_7 8 rfl rfl)
theorem dX0_image_176 : decode cX0_image 176 = .ok (.getfield 411, 3) := dk_180 1 155 (dk_at dksX0_image_7 9 rfl rfl)
theorem dX0_image_179 : decode cX0_image 179 = .ok (.invokestatic 417, 3) := dk_184 1 161 (dk_at dksX0_image_7 12 rfl rfl)
theorem dX0_image_182 : decode cX0_image 182 = .ok (.invokevirtual 414, 3) := dk_182 1 158 (dk_at dksX0_image_7 15 rfl rfl)
theorem dX0_image_185 : decode cX0_image 185 = .ok (.aload_n 0, 1) := dk_42 (dk_at dksX0_image_7 18 rfl rfl)
theorem dX0_image_186 : decode cX0_image 186 = .ok (.getfield 411, 3) := dk_180 1 155 (dk_at dksX0_image_7 19 rfl rfl)
theorem dX0_image_189 : decode cX0_image 189 = .ok (.ireturn, 1) := dk_172 (dk_at dksX0_image_7 22 rfl rfl)
abbrev cX0_writes : ByteArray := prog_1_method_63_code
def yX0_writes : MethodName := ⟨RX0, "writes", "(I)V"⟩
def dkwX0_writes_0 : List UInt8 := [42, 180, 0, 114, 42, 89, 180, 1, 155, 90, 4, 96, 181, 1, 155, 27, 145, 84, 177]
abbrev dktX0_writes_0 : List UInt8 := dkwX0_writes_0 ++ []
theorem dksX0_writes_0 : cX0_writes.data.toList.drop 0 = dktX0_writes_0 := by decide +kernel
theorem dX0_writes_0 : decode cX0_writes 0 = .ok (.aload_n 0, 1) := dk_42 (dk_at dksX0_writes_0 0 rfl rfl)
theorem dX0_writes_1 : decode cX0_writes 1 = .ok (.getfield 114, 3) := dk_180 0 114 (dk_at dksX0_writes_0 1 rfl rfl)
theorem dX0_writes_4 : decode cX0_writes 4 = .ok (.aload_n 0, 1) := dk_42 (dk_at dksX0_writes_0 4 rfl rfl)
theorem dX0_writes_5 : decode cX0_writes 5 = .ok (.dup, 1) := dk_89 (dk_at dksX0_writes_0 5 rfl rfl)
theorem dX0_writes_6 : decode cX0_writes 6 = .ok (.getfield 411, 3) := dk_180 1 155 (dk_at dksX0_writes_0 6 rfl rfl)
theorem dX0_writes_9 : decode cX0_writes 9 = .ok (.dup_x1, 1) := dk_90 (dk_at dksX0_writes_0 9 rfl rfl)
theorem dX0_writes_10 : decode cX0_writes 10 = .ok (.iconst 1, 1) := dk_4 (dk_at dksX0_writes_0 10 rfl rfl)
theorem dX0_writes_11 : decode cX0_writes 11 = .ok (.iadd, 1) := dk_96 (dk_at dksX0_writes_0 11 rfl rfl)
theorem dX0_writes_12 : decode cX0_writes 12 = .ok (.putfield 411, 3) := dk_181 1 155 (dk_at dksX0_writes_0 12 rfl rfl)
theorem dX0_writes_15 : decode cX0_writes 15 = .ok (.iload_n 1, 1) := dk_27 (dk_at dksX0_writes_0 15 rfl rfl)
theorem dX0_writes_16 : decode cX0_writes 16 = .ok (.i2b, 1) := dk_145 (dk_at dksX0_writes_0 16 rfl rfl)
theorem dX0_writes_17 : decode cX0_writes 17 = .ok (.bastore, 1) := dk_84 (dk_at dksX0_writes_0 17 rfl rfl)
theorem dX0_writes_18 : decode cX0_writes 18 = .ok (.return_, 1) := dk_177 (dk_at dksX0_writes_0 18 rfl rfl)
abbrev cX0_check : ByteArray := prog_1_method_64_code
def yX0_check : MethodName := ⟨RX0, "check", "([BI)I"⟩
def dkwX0_check_1 : List UInt8 := [112, 61, 132, 3, 1, 167, 255, 232, 28, 172]
abbrev dktX0_check_1 : List UInt8 := dkwX0_check_1 ++ []
def dkwX0_check_0 : List UInt8 := [16, 59, 61, 3, 62, 29, 27, 162, 0, 25, 6, 28, 104, 42, 29, 51, 17, 0, 255, 126, 96, 17, 0, 251]
abbrev dktX0_check_0 : List UInt8 := dkwX0_check_0 ++ dktX0_check_1
theorem dksX0_check_0 : cX0_check.data.toList.drop 0 = dktX0_check_0 := by decide +kernel
theorem dksX0_check_1 : cX0_check.data.toList.drop 24 = dktX0_check_1 := dk_seg dksX0_check_0 24 rfl rfl
theorem dX0_check_0 : decode cX0_check 0 = .ok (.bipush 59, 2) := dk_16 59 (dk_at dksX0_check_0 0 rfl rfl)
theorem dX0_check_2 : decode cX0_check 2 = .ok (.istore_n 2, 1) := dk_61 (dk_at dksX0_check_0 2 rfl rfl)
theorem dX0_check_3 : decode cX0_check 3 = .ok (.iconst 0, 1) := dk_3 (dk_at dksX0_check_0 3 rfl rfl)
theorem dX0_check_4 : decode cX0_check 4 = .ok (.istore_n 3, 1) := dk_62 (dk_at dksX0_check_0 4 rfl rfl)
theorem dX0_check_5 : decode cX0_check 5 = .ok (.iload_n 3, 1) := dk_29 (dk_at dksX0_check_0 5 rfl rfl)
theorem dX0_check_6 : decode cX0_check 6 = .ok (.iload_n 1, 1) := dk_27 (dk_at dksX0_check_0 6 rfl rfl)
theorem dX0_check_7 : decode cX0_check 7 = .ok (.if_icmp .ge 25, 3) := dk_162 0 25 (dk_at dksX0_check_0 7 rfl rfl)
theorem dX0_check_10 : decode cX0_check 10 = .ok (.iconst 3, 1) := dk_6 (dk_at dksX0_check_0 10 rfl rfl)
theorem dX0_check_11 : decode cX0_check 11 = .ok (.iload_n 2, 1) := dk_28 (dk_at dksX0_check_0 11 rfl rfl)
theorem dX0_check_12 : decode cX0_check 12 = .ok (.imul, 1) := dk_104 (dk_at dksX0_check_0 12 rfl rfl)
theorem dX0_check_13 : decode cX0_check 13 = .ok (.aload_n 0, 1) := dk_42 (dk_at dksX0_check_0 13 rfl rfl)
theorem dX0_check_14 : decode cX0_check 14 = .ok (.iload_n 3, 1) := dk_29 (dk_at dksX0_check_0 14 rfl rfl)
theorem dX0_check_15 : decode cX0_check 15 = .ok (.baload, 1) := dk_51 (dk_at dksX0_check_0 15 rfl rfl)
theorem dX0_check_16 : decode cX0_check 16 = .ok (.sipush 255, 3) := dk_17 0 255 (dk_at dksX0_check_0 16 rfl rfl)
theorem dX0_check_19 : decode cX0_check 19 = .ok (.iand, 1) := dk_126 (dk_at dksX0_check_0 19 rfl rfl)
theorem dX0_check_20 : decode cX0_check 20 = .ok (.iadd, 1) := dk_96 (dk_at dksX0_check_0 20 rfl rfl)
theorem dX0_check_21 : decode cX0_check 21 = .ok (.sipush 251, 3) := dk_17 0 251 (dk_at dksX0_check_0 21 rfl rfl)
theorem dX0_check_24 : decode cX0_check 24 = .ok (.irem, 1) := dk_112 (dk_at dksX0_check_1 0 rfl rfl)
theorem dX0_check_25 : decode cX0_check 25 = .ok (.istore_n 2, 1) := dk_61 (dk_at dksX0_check_1 1 rfl rfl)
theorem dX0_check_26 : decode cX0_check 26 = .ok (.iinc 3 1, 3) := dk_132 3 1 (dk_at dksX0_check_1 2 rfl rfl)
theorem dX0_check_29 : decode cX0_check 29 = .ok (.goto (-24), 3) := dk_167 255 232 (dk_at dksX0_check_1 5 rfl rfl)
theorem dX0_check_32 : decode cX0_check 32 = .ok (.iload_n 2, 1) := dk_28 (dk_at dksX0_check_1 8 rfl rfl)
theorem dX0_check_33 : decode cX0_check 33 = .ok (.ireturn, 1) := dk_172 (dk_at dksX0_check_1 9 rfl rfl)
abbrev cX0_octet : ByteArray := prog_1_method_66_code
def yX0_octet : MethodName := ⟨RX0, "octet", "(I)I"⟩
def dkwX0_octet_1 : List UInt8 := [17, 0, 255, 126, 172]
abbrev dktX0_octet_1 : List UInt8 := dkwX0_octet_1 ++ []
def dkwX0_octet_0 : List UInt8 := [27, 155, 0, 11, 27, 42, 180, 1, 155, 161, 0, 7, 2, 167, 0, 13, 42, 180, 0, 114, 27, 51]
abbrev dktX0_octet_0 : List UInt8 := dkwX0_octet_0 ++ dktX0_octet_1
theorem dksX0_octet_0 : cX0_octet.data.toList.drop 0 = dktX0_octet_0 := by decide +kernel
theorem dksX0_octet_1 : cX0_octet.data.toList.drop 22 = dktX0_octet_1 := dk_seg dksX0_octet_0 22 rfl rfl
theorem dX0_octet_0 : decode cX0_octet 0 = .ok (.iload_n 1, 1) := dk_27 (dk_at dksX0_octet_0 0 rfl rfl)
theorem dX0_octet_1 : decode cX0_octet 1 = .ok (.ifCond .lt 11, 3) := dk_155 0 11 (dk_at dksX0_octet_0 1 rfl rfl)
theorem dX0_octet_4 : decode cX0_octet 4 = .ok (.iload_n 1, 1) := dk_27 (dk_at dksX0_octet_0 4 rfl rfl)
theorem dX0_octet_5 : decode cX0_octet 5 = .ok (.aload_n 0, 1) := dk_42 (dk_at dksX0_octet_0 5 rfl rfl)
theorem dX0_octet_6 : decode cX0_octet 6 = .ok (.getfield 411, 3) := dk_180 1 155 (dk_at dksX0_octet_0 6 rfl rfl)
theorem dX0_octet_9 : decode cX0_octet 9 = .ok (.if_icmp .lt 7, 3) := dk_161 0 7 (dk_at dksX0_octet_0 9 rfl rfl)
theorem dX0_octet_12 : decode cX0_octet 12 = .ok (.iconst (-1), 1) := dk_2 (dk_at dksX0_octet_0 12 rfl rfl)
theorem dX0_octet_13 : decode cX0_octet 13 = .ok (.goto 13, 3) := dk_167 0 13 (dk_at dksX0_octet_0 13 rfl rfl)
theorem dX0_octet_16 : decode cX0_octet 16 = .ok (.aload_n 0, 1) := dk_42 (dk_at dksX0_octet_0 16 rfl rfl)
theorem dX0_octet_17 : decode cX0_octet 17 = .ok (.getfield 114, 3) := dk_180 0 114 (dk_at dksX0_octet_0 17 rfl rfl)
theorem dX0_octet_20 : decode cX0_octet 20 = .ok (.iload_n 1, 1) := dk_27 (dk_at dksX0_octet_0 20 rfl rfl)
theorem dX0_octet_21 : decode cX0_octet 21 = .ok (.baload, 1) := dk_51 (dk_at dksX0_octet_0 21 rfl rfl)
theorem dX0_octet_22 : decode cX0_octet 22 = .ok (.sipush 255, 3) := dk_17 0 255 (dk_at dksX0_octet_1 0 rfl rfl)
theorem dX0_octet_25 : decode cX0_octet 25 = .ok (.iand, 1) := dk_126 (dk_at dksX0_octet_1 3 rfl rfl)
theorem dX0_octet_26 : decode cX0_octet 26 = .ok (.ireturn, 1) := dk_172 (dk_at dksX0_octet_1 4 rfl rfl)
abbrev cX0_on : ByteArray := prog_1_method_67_code
def yX0_on : MethodName := ⟨RX0, "on", "()Z"⟩
def dkwX0_on_10 : List UInt8 := [181, 0, 224, 42, 180, 0, 83, 42, 180, 0, 87, 182, 1, 35, 87, 42, 3, 181, 0, 150, 4, 172]
abbrev dktX0_on_10 : List UInt8 := dkwX0_on_10 ++ []
def dkwX0_on_9 : List UInt8 := [3, 182, 1, 98, 181, 0, 205, 42, 180, 0, 87, 42, 5, 182, 1, 95, 181, 0, 208, 42, 180, 0, 87, 3]
abbrev dktX0_on_9 : List UInt8 := dkwX0_on_9 ++ dktX0_on_10
def dkwX0_on_8 : List UInt8 := [182, 0, 120, 155, 0, 7, 4, 167, 0, 4, 3, 172, 42, 180, 0, 87, 182, 0, 107, 42, 180, 0, 87, 42]
abbrev dktX0_on_8 : List UInt8 := dkwX0_on_8 ++ dktX0_on_9
def dkwX0_on_7 : List UInt8 := [17, 3, 231, 163, 0, 7, 4, 167, 0, 4, 3, 62, 132, 4, 1, 167, 255, 198, 29, 154, 0, 17, 42, 8]
abbrev dktX0_on_7 : List UInt8 := dkwX0_on_7 ++ dktX0_on_8
def dkwX0_on_6 : List UInt8 := [21, 4, 42, 28, 5, 21, 4, 104, 96, 182, 1, 98, 79, 42, 180, 0, 87, 180, 1, 10, 21, 4, 46]
abbrev dktX0_on_6 : List UInt8 := dkwX0_on_6 ++ dktX0_on_7
def dkwX0_on_5 : List UInt8 := [3, 54, 4, 21, 4, 42, 182, 0, 176, 162, 0, 55, 29, 153, 0, 51, 42, 180, 0, 87, 180, 1, 10]
abbrev dktX0_on_5 : List UInt8 := dkwX0_on_5 ++ dktX0_on_6
def dkwX0_on_4 : List UInt8 := [153, 0, 22, 42, 6, 42, 180, 0, 87, 180, 0, 249, 182, 1, 109, 153, 0, 7, 4, 167, 0, 4, 3, 62]
abbrev dktX0_on_4 : List UInt8 := dkwX0_on_4 ++ dktX0_on_5
def dkwX0_on_3 : List UInt8 := [162, 0, 7, 4, 167, 0, 4, 3, 62, 42, 180, 0, 87, 42, 180, 0, 83, 182, 1, 35, 87, 29]
abbrev dktX0_on_3 : List UInt8 := dkwX0_on_3 ++ dktX0_on_4
def dkwX0_on_2 : List UInt8 := [100, 184, 1, 161, 160, 0, 27, 42, 3, 182, 1, 98, 17, 3, 231, 163, 0, 16, 42, 5, 182, 1, 95, 5]
abbrev dktX0_on_2 : List UInt8 := dkwX0_on_2 ++ dktX0_on_3
def dkwX0_on_1 : List UInt8 := [42, 182, 0, 176, 104, 96, 4, 96, 160, 0, 47, 42, 27, 4, 100, 182, 1, 95, 42, 180, 0, 35, 27, 4]
abbrev dktX0_on_1 : List UInt8 := dkwX0_on_1 ++ dktX0_on_2
def dkwX0_on_0 : List UInt8 := [42, 182, 0, 131, 60, 6, 5, 42, 182, 0, 174, 104, 96, 61, 42, 182, 0, 211, 153, 0, 61, 27, 28, 5]
abbrev dktX0_on_0 : List UInt8 := dkwX0_on_0 ++ dktX0_on_1
theorem dksX0_on_0 : cX0_on.data.toList.drop 0 = dktX0_on_0 := by decide +kernel
theorem dksX0_on_1 : cX0_on.data.toList.drop 24 = dktX0_on_1 := dk_seg dksX0_on_0 24 rfl rfl
theorem dksX0_on_2 : cX0_on.data.toList.drop 48 = dktX0_on_2 := dk_seg dksX0_on_1 24 rfl rfl
theorem dksX0_on_3 : cX0_on.data.toList.drop 72 = dktX0_on_3 := dk_seg dksX0_on_2 24 rfl rfl
theorem dksX0_on_4 : cX0_on.data.toList.drop 94 = dktX0_on_4 := dk_seg dksX0_on_3 22 rfl rfl
theorem dksX0_on_5 : cX0_on.data.toList.drop 118 = dktX0_on_5 := dk_seg dksX0_on_4 24 rfl rfl
theorem dksX0_on_6 : cX0_on.data.toList.drop 141 = dktX0_on_6 := dk_seg dksX0_on_5 23 rfl rfl
theorem dksX0_on_7 : cX0_on.data.toList.drop 164 = dktX0_on_7 := dk_seg dksX0_on_6 23 rfl rfl
theorem dksX0_on_8 : cX0_on.data.toList.drop 188 = dktX0_on_8 := dk_seg dksX0_on_7 24 rfl rfl
theorem dksX0_on_9 : cX0_on.data.toList.drop 212 = dktX0_on_9 := dk_seg dksX0_on_8 24 rfl rfl
theorem dksX0_on_10 : cX0_on.data.toList.drop 236 = dktX0_on_10 := dk_seg dksX0_on_9 24 rfl rfl
theorem dX0_on_0 : decode cX0_on 0 = .ok (.aload_n 0, 1) := dk_42 (dk_at dksX0_on_0 0 rfl rfl)
theorem dX0_on_1 : decode cX0_on 1 = .ok (.invokevirtual 131, 3) := dk_182 0 131 (dk_at dksX0_on_0 1 rfl rfl)
theorem dX0_on_4 : decode cX0_on 4 = .ok (.istore_n 1, 1) := dk_60 (dk_at dksX0_on_0 4 rfl rfl)
theorem dX0_on_5 : decode cX0_on 5 = .ok (.iconst 3, 1) := dk_6 (dk_at dksX0_on_0 5 rfl rfl)
theorem dX0_on_6 : decode cX0_on 6 = .ok (.iconst 2, 1) := dk_5 (dk_at dksX0_on_0 6 rfl rfl)
theorem dX0_on_7 : decode cX0_on 7 = .ok (.aload_n 0, 1) := dk_42 (dk_at dksX0_on_0 7 rfl rfl)
theorem dX0_on_8 : decode cX0_on 8 = .ok (.invokevirtual 174, 3) := dk_182 0 174 (dk_at dksX0_on_0 8 rfl rfl)
theorem dX0_on_11 : decode cX0_on 11 = .ok (.imul, 1) := dk_104 (dk_at dksX0_on_0 11 rfl rfl)
theorem dX0_on_12 : decode cX0_on 12 = .ok (.iadd, 1) := dk_96 (dk_at dksX0_on_0 12 rfl rfl)
theorem dX0_on_13 : decode cX0_on 13 = .ok (.istore_n 2, 1) := dk_61 (dk_at dksX0_on_0 13 rfl rfl)
theorem dX0_on_14 : decode cX0_on 14 = .ok (.aload_n 0, 1) := dk_42 (dk_at dksX0_on_0 14 rfl rfl)
theorem dX0_on_15 : decode cX0_on 15 = .ok (.invokevirtual 211, 3) := dk_182 0 211 (dk_at dksX0_on_0 15 rfl rfl)
theorem dX0_on_18 : decode cX0_on 18 = .ok (.ifCond .eq 61, 3) := dk_153 0 61 (dk_at dksX0_on_0 18 rfl rfl)
theorem dX0_on_21 : decode cX0_on 21 = .ok (.iload_n 1, 1) := dk_27 (dk_at dksX0_on_0 21 rfl rfl)
theorem dX0_on_22 : decode cX0_on 22 = .ok (.iload_n 2, 1) := dk_28 (dk_at dksX0_on_0 22 rfl rfl)
theorem dX0_on_23 : decode cX0_on 23 = .ok (.iconst 2, 1) := dk_5 (dk_at dksX0_on_0 23 rfl rfl)
theorem dX0_on_24 : decode cX0_on 24 = .ok (.aload_n 0, 1) := dk_42 (dk_at dksX0_on_1 0 rfl rfl)
theorem dX0_on_25 : decode cX0_on 25 = .ok (.invokevirtual 176, 3) := dk_182 0 176 (dk_at dksX0_on_1 1 rfl rfl)
theorem dX0_on_28 : decode cX0_on 28 = .ok (.imul, 1) := dk_104 (dk_at dksX0_on_1 4 rfl rfl)
theorem dX0_on_29 : decode cX0_on 29 = .ok (.iadd, 1) := dk_96 (dk_at dksX0_on_1 5 rfl rfl)
theorem dX0_on_30 : decode cX0_on 30 = .ok (.iconst 1, 1) := dk_4 (dk_at dksX0_on_1 6 rfl rfl)
theorem dX0_on_31 : decode cX0_on 31 = .ok (.iadd, 1) := dk_96 (dk_at dksX0_on_1 7 rfl rfl)
theorem dX0_on_32 : decode cX0_on 32 = .ok (.if_icmp .ne 47, 3) := dk_160 0 47 (dk_at dksX0_on_1 8 rfl rfl)
theorem dX0_on_35 : decode cX0_on 35 = .ok (.aload_n 0, 1) := dk_42 (dk_at dksX0_on_1 11 rfl rfl)
theorem dX0_on_36 : decode cX0_on 36 = .ok (.iload_n 1, 1) := dk_27 (dk_at dksX0_on_1 12 rfl rfl)
theorem dX0_on_37 : decode cX0_on 37 = .ok (.iconst 1, 1) := dk_4 (dk_at dksX0_on_1 13 rfl rfl)
theorem dX0_on_38 : decode cX0_on 38 = .ok (.isub, 1) := dk_100 (dk_at dksX0_on_1 14 rfl rfl)
theorem dX0_on_39 : decode cX0_on 39 = .ok (.invokevirtual 351, 3) := dk_182 1 95 (dk_at dksX0_on_1 15 rfl rfl)
theorem dX0_on_42 : decode cX0_on 42 = .ok (.aload_n 0, 1) := dk_42 (dk_at dksX0_on_1 18 rfl rfl)
theorem dX0_on_43 : decode cX0_on 43 = .ok (.getfield 35, 3) := dk_180 0 35 (dk_at dksX0_on_1 19 rfl rfl)
theorem dX0_on_46 : decode cX0_on 46 = .ok (.iload_n 1, 1) := dk_27 (dk_at dksX0_on_1 22 rfl rfl)
theorem dX0_on_47 : decode cX0_on 47 = .ok (.iconst 1, 1) := dk_4 (dk_at dksX0_on_1 23 rfl rfl)
theorem dX0_on_48 : decode cX0_on 48 = .ok (.isub, 1) := dk_100 (dk_at dksX0_on_2 0 rfl rfl)
theorem dX0_on_49 : decode cX0_on 49 = .ok (.invokestatic 417, 3) := dk_184 1 161 (dk_at dksX0_on_2 1 rfl rfl)
theorem dX0_on_52 : decode cX0_on 52 = .ok (.if_icmp .ne 27, 3) := dk_160 0 27 (dk_at dksX0_on_2 4 rfl rfl)
theorem dX0_on_55 : decode cX0_on 55 = .ok (.aload_n 0, 1) := dk_42 (dk_at dksX0_on_2 7 rfl rfl)
theorem dX0_on_56 : decode cX0_on 56 = .ok (.iconst 0, 1) := dk_3 (dk_at dksX0_on_2 8 rfl rfl)
theorem dX0_on_57 : decode cX0_on 57 = .ok (.invokevirtual 354, 3) := dk_182 1 98 (dk_at dksX0_on_2 9 rfl rfl)
theorem dX0_on_60 : decode cX0_on 60 = .ok (.sipush 999, 3) := dk_17 3 231 (dk_at dksX0_on_2 12 rfl rfl)
theorem dX0_on_63 : decode cX0_on 63 = .ok (.if_icmp .gt 16, 3) := dk_163 0 16 (dk_at dksX0_on_2 15 rfl rfl)
theorem dX0_on_66 : decode cX0_on 66 = .ok (.aload_n 0, 1) := dk_42 (dk_at dksX0_on_2 18 rfl rfl)
theorem dX0_on_67 : decode cX0_on 67 = .ok (.iconst 2, 1) := dk_5 (dk_at dksX0_on_2 19 rfl rfl)
theorem dX0_on_68 : decode cX0_on 68 = .ok (.invokevirtual 351, 3) := dk_182 1 95 (dk_at dksX0_on_2 20 rfl rfl)
theorem dX0_on_71 : decode cX0_on 71 = .ok (.iconst 2, 1) := dk_5 (dk_at dksX0_on_2 23 rfl rfl)
theorem dX0_on_72 : decode cX0_on 72 = .ok (.if_icmp .ge 7, 3) := dk_162 0 7 (dk_at dksX0_on_3 0 rfl rfl)
theorem dX0_on_75 : decode cX0_on 75 = .ok (.iconst 1, 1) := dk_4 (dk_at dksX0_on_3 3 rfl rfl)
theorem dX0_on_76 : decode cX0_on 76 = .ok (.goto 4, 3) := dk_167 0 4 (dk_at dksX0_on_3 4 rfl rfl)
theorem dX0_on_79 : decode cX0_on 79 = .ok (.iconst 0, 1) := dk_3 (dk_at dksX0_on_3 7 rfl rfl)
theorem dX0_on_80 : decode cX0_on 80 = .ok (.istore_n 3, 1) := dk_62 (dk_at dksX0_on_3 8 rfl rfl)
theorem dX0_on_81 : decode cX0_on 81 = .ok (.aload_n 0, 1) := dk_42 (dk_at dksX0_on_3 9 rfl rfl)
theorem dX0_on_82 : decode cX0_on 82 = .ok (.getfield 87, 3) := dk_180 0 87 (dk_at dksX0_on_3 10 rfl rfl)
theorem dX0_on_85 : decode cX0_on 85 = .ok (.aload_n 0, 1) := dk_42 (dk_at dksX0_on_3 13 rfl rfl)
theorem dX0_on_86 : decode cX0_on 86 = .ok (.getfield 83, 3) := dk_180 0 83 (dk_at dksX0_on_3 14 rfl rfl)
theorem dX0_on_89 : decode cX0_on 89 = .ok (.invokevirtual 291, 3) := dk_182 1 35 (dk_at dksX0_on_3 17 rfl rfl)
theorem dX0_on_92 : decode cX0_on 92 = .ok (.pop, 1) := dk_87 (dk_at dksX0_on_3 20 rfl rfl)
theorem dX0_on_93 : decode cX0_on 93 = .ok (.iload_n 3, 1) := dk_29 (dk_at dksX0_on_3 21 rfl rfl)
theorem dX0_on_94 : decode cX0_on 94 = .ok (.ifCond .eq 22, 3) := dk_153 0 22 (dk_at dksX0_on_4 0 rfl rfl)
theorem dX0_on_97 : decode cX0_on 97 = .ok (.aload_n 0, 1) := dk_42 (dk_at dksX0_on_4 3 rfl rfl)
theorem dX0_on_98 : decode cX0_on 98 = .ok (.iconst 3, 1) := dk_6 (dk_at dksX0_on_4 4 rfl rfl)
theorem dX0_on_99 : decode cX0_on 99 = .ok (.aload_n 0, 1) := dk_42 (dk_at dksX0_on_4 5 rfl rfl)
theorem dX0_on_100 : decode cX0_on 100 = .ok (.getfield 87, 3) := dk_180 0 87 (dk_at dksX0_on_4 6 rfl rfl)
theorem dX0_on_103 : decode cX0_on 103 = .ok (.getfield 249, 3) := dk_180 0 249 (dk_at dksX0_on_4 9 rfl rfl)
theorem dX0_on_106 : decode cX0_on 106 = .ok (.invokevirtual 365, 3) := dk_182 1 109 (dk_at dksX0_on_4 12 rfl rfl)
theorem dX0_on_109 : decode cX0_on 109 = .ok (.ifCond .eq 7, 3) := dk_153 0 7 (dk_at dksX0_on_4 15 rfl rfl)
theorem dX0_on_112 : decode cX0_on 112 = .ok (.iconst 1, 1) := dk_4 (dk_at dksX0_on_4 18 rfl rfl)
theorem dX0_on_113 : decode cX0_on 113 = .ok (.goto 4, 3) := dk_167 0 4 (dk_at dksX0_on_4 19 rfl rfl)
theorem dX0_on_116 : decode cX0_on 116 = .ok (.iconst 0, 1) := dk_3 (dk_at dksX0_on_4 22 rfl rfl)
theorem dX0_on_117 : decode cX0_on 117 = .ok (.istore_n 3, 1) := dk_62 (dk_at dksX0_on_4 23 rfl rfl)
theorem dX0_on_118 : decode cX0_on 118 = .ok (.iconst 0, 1) := dk_3 (dk_at dksX0_on_5 0 rfl rfl)
theorem dX0_on_119 : decode cX0_on 119 = .ok (.istore 4, 2) := dk_54 4 (dk_at dksX0_on_5 1 rfl rfl)
theorem dX0_on_121 : decode cX0_on 121 = .ok (.iload 4, 2) := dk_21 4 (dk_at dksX0_on_5 3 rfl rfl)
theorem dX0_on_123 : decode cX0_on 123 = .ok (.aload_n 0, 1) := dk_42 (dk_at dksX0_on_5 5 rfl rfl)
theorem dX0_on_124 : decode cX0_on 124 = .ok (.invokevirtual 176, 3) := dk_182 0 176 (dk_at dksX0_on_5 6 rfl rfl)
theorem dX0_on_127 : decode cX0_on 127 = .ok (.if_icmp .ge 55, 3) := dk_162 0 55 (dk_at dksX0_on_5 9 rfl rfl)
theorem dX0_on_130 : decode cX0_on 130 = .ok (.iload_n 3, 1) := dk_29 (dk_at dksX0_on_5 12 rfl rfl)
theorem dX0_on_131 : decode cX0_on 131 = .ok (.ifCond .eq 51, 3) := dk_153 0 51 (dk_at dksX0_on_5 13 rfl rfl)
theorem dX0_on_134 : decode cX0_on 134 = .ok (.aload_n 0, 1) := dk_42 (dk_at dksX0_on_5 16 rfl rfl)
theorem dX0_on_135 : decode cX0_on 135 = .ok (.getfield 87, 3) := dk_180 0 87 (dk_at dksX0_on_5 17 rfl rfl)
theorem dX0_on_138 : decode cX0_on 138 = .ok (.getfield 266, 3) := dk_180 1 10 (dk_at dksX0_on_5 20 rfl rfl)
theorem dX0_on_141 : decode cX0_on 141 = .ok (.iload 4, 2) := dk_21 4 (dk_at dksX0_on_6 0 rfl rfl)
theorem dX0_on_143 : decode cX0_on 143 = .ok (.aload_n 0, 1) := dk_42 (dk_at dksX0_on_6 2 rfl rfl)
theorem dX0_on_144 : decode cX0_on 144 = .ok (.iload_n 2, 1) := dk_28 (dk_at dksX0_on_6 3 rfl rfl)
theorem dX0_on_145 : decode cX0_on 145 = .ok (.iconst 2, 1) := dk_5 (dk_at dksX0_on_6 4 rfl rfl)
theorem dX0_on_146 : decode cX0_on 146 = .ok (.iload 4, 2) := dk_21 4 (dk_at dksX0_on_6 5 rfl rfl)
theorem dX0_on_148 : decode cX0_on 148 = .ok (.imul, 1) := dk_104 (dk_at dksX0_on_6 7 rfl rfl)
theorem dX0_on_149 : decode cX0_on 149 = .ok (.iadd, 1) := dk_96 (dk_at dksX0_on_6 8 rfl rfl)
theorem dX0_on_150 : decode cX0_on 150 = .ok (.invokevirtual 354, 3) := dk_182 1 98 (dk_at dksX0_on_6 9 rfl rfl)
theorem dX0_on_153 : decode cX0_on 153 = .ok (.iastore, 1) := dk_79 (dk_at dksX0_on_6 12 rfl rfl)
theorem dX0_on_154 : decode cX0_on 154 = .ok (.aload_n 0, 1) := dk_42 (dk_at dksX0_on_6 13 rfl rfl)
theorem dX0_on_155 : decode cX0_on 155 = .ok (.getfield 87, 3) := dk_180 0 87 (dk_at dksX0_on_6 14 rfl rfl)
theorem dX0_on_158 : decode cX0_on 158 = .ok (.getfield 266, 3) := dk_180 1 10 (dk_at dksX0_on_6 17 rfl rfl)
theorem dX0_on_161 : decode cX0_on 161 = .ok (.iload 4, 2) := dk_21 4 (dk_at dksX0_on_6 20 rfl rfl)
theorem dX0_on_163 : decode cX0_on 163 = .ok (.iaload, 1) := dk_46 (dk_at dksX0_on_6 22 rfl rfl)
theorem dX0_on_164 : decode cX0_on 164 = .ok (.sipush 999, 3) := dk_17 3 231 (dk_at dksX0_on_7 0 rfl rfl)
theorem dX0_on_167 : decode cX0_on 167 = .ok (.if_icmp .gt 7, 3) := dk_163 0 7 (dk_at dksX0_on_7 3 rfl rfl)
theorem dX0_on_170 : decode cX0_on 170 = .ok (.iconst 1, 1) := dk_4 (dk_at dksX0_on_7 6 rfl rfl)
theorem dX0_on_171 : decode cX0_on 171 = .ok (.goto 4, 3) := dk_167 0 4 (dk_at dksX0_on_7 7 rfl rfl)
theorem dX0_on_174 : decode cX0_on 174 = .ok (.iconst 0, 1) := dk_3 (dk_at dksX0_on_7 10 rfl rfl)
theorem dX0_on_175 : decode cX0_on 175 = .ok (.istore_n 3, 1) := dk_62 (dk_at dksX0_on_7 11 rfl rfl)
theorem dX0_on_176 : decode cX0_on 176 = .ok (.iinc 4 1, 3) := dk_132 4 1 (dk_at dksX0_on_7 12 rfl rfl)
theorem dX0_on_179 : decode cX0_on 179 = .ok (.goto (-58), 3) := dk_167 255 198 (dk_at dksX0_on_7 15 rfl rfl)
theorem dX0_on_182 : decode cX0_on 182 = .ok (.iload_n 3, 1) := dk_29 (dk_at dksX0_on_7 18 rfl rfl)
theorem dX0_on_183 : decode cX0_on 183 = .ok (.ifCond .ne 17, 3) := dk_154 0 17 (dk_at dksX0_on_7 19 rfl rfl)
theorem dX0_on_186 : decode cX0_on 186 = .ok (.aload_n 0, 1) := dk_42 (dk_at dksX0_on_7 22 rfl rfl)
theorem dX0_on_187 : decode cX0_on 187 = .ok (.iconst 5, 1) := dk_8 (dk_at dksX0_on_7 23 rfl rfl)
theorem dX0_on_188 : decode cX0_on 188 = .ok (.invokevirtual 120, 3) := dk_182 0 120 (dk_at dksX0_on_8 0 rfl rfl)
theorem dX0_on_191 : decode cX0_on 191 = .ok (.ifCond .lt 7, 3) := dk_155 0 7 (dk_at dksX0_on_8 3 rfl rfl)
theorem dX0_on_194 : decode cX0_on 194 = .ok (.iconst 1, 1) := dk_4 (dk_at dksX0_on_8 6 rfl rfl)
theorem dX0_on_195 : decode cX0_on 195 = .ok (.goto 4, 3) := dk_167 0 4 (dk_at dksX0_on_8 7 rfl rfl)
theorem dX0_on_198 : decode cX0_on 198 = .ok (.iconst 0, 1) := dk_3 (dk_at dksX0_on_8 10 rfl rfl)
theorem dX0_on_199 : decode cX0_on 199 = .ok (.ireturn, 1) := dk_172 (dk_at dksX0_on_8 11 rfl rfl)
theorem dX0_on_200 : decode cX0_on 200 = .ok (.aload_n 0, 1) := dk_42 (dk_at dksX0_on_8 12 rfl rfl)
theorem dX0_on_201 : decode cX0_on 201 = .ok (.getfield 87, 3) := dk_180 0 87 (dk_at dksX0_on_8 13 rfl rfl)
theorem dX0_on_204 : decode cX0_on 204 = .ok (.invokevirtual 107, 3) := dk_182 0 107 (dk_at dksX0_on_8 16 rfl rfl)
theorem dX0_on_207 : decode cX0_on 207 = .ok (.aload_n 0, 1) := dk_42 (dk_at dksX0_on_8 19 rfl rfl)
theorem dX0_on_208 : decode cX0_on 208 = .ok (.getfield 87, 3) := dk_180 0 87 (dk_at dksX0_on_8 20 rfl rfl)
theorem dX0_on_211 : decode cX0_on 211 = .ok (.aload_n 0, 1) := dk_42 (dk_at dksX0_on_8 23 rfl rfl)
theorem dX0_on_212 : decode cX0_on 212 = .ok (.iconst 0, 1) := dk_3 (dk_at dksX0_on_9 0 rfl rfl)
theorem dX0_on_213 : decode cX0_on 213 = .ok (.invokevirtual 354, 3) := dk_182 1 98 (dk_at dksX0_on_9 1 rfl rfl)
theorem dX0_on_216 : decode cX0_on 216 = .ok (.putfield 205, 3) := dk_181 0 205 (dk_at dksX0_on_9 4 rfl rfl)
theorem dX0_on_219 : decode cX0_on 219 = .ok (.aload_n 0, 1) := dk_42 (dk_at dksX0_on_9 7 rfl rfl)
theorem dX0_on_220 : decode cX0_on 220 = .ok (.getfield 87, 3) := dk_180 0 87 (dk_at dksX0_on_9 8 rfl rfl)
theorem dX0_on_223 : decode cX0_on 223 = .ok (.aload_n 0, 1) := dk_42 (dk_at dksX0_on_9 11 rfl rfl)
theorem dX0_on_224 : decode cX0_on 224 = .ok (.iconst 2, 1) := dk_5 (dk_at dksX0_on_9 12 rfl rfl)
theorem dX0_on_225 : decode cX0_on 225 = .ok (.invokevirtual 351, 3) := dk_182 1 95 (dk_at dksX0_on_9 13 rfl rfl)
theorem dX0_on_228 : decode cX0_on 228 = .ok (.putfield 208, 3) := dk_181 0 208 (dk_at dksX0_on_9 16 rfl rfl)
theorem dX0_on_231 : decode cX0_on 231 = .ok (.aload_n 0, 1) := dk_42 (dk_at dksX0_on_9 19 rfl rfl)
theorem dX0_on_232 : decode cX0_on 232 = .ok (.getfield 87, 3) := dk_180 0 87 (dk_at dksX0_on_9 20 rfl rfl)
theorem dX0_on_235 : decode cX0_on 235 = .ok (.iconst 0, 1) := dk_3 (dk_at dksX0_on_9 23 rfl rfl)
theorem dX0_on_236 : decode cX0_on 236 = .ok (.putfield 224, 3) := dk_181 0 224 (dk_at dksX0_on_10 0 rfl rfl)
theorem dX0_on_239 : decode cX0_on 239 = .ok (.aload_n 0, 1) := dk_42 (dk_at dksX0_on_10 3 rfl rfl)
theorem dX0_on_240 : decode cX0_on 240 = .ok (.getfield 83, 3) := dk_180 0 83 (dk_at dksX0_on_10 4 rfl rfl)
theorem dX0_on_243 : decode cX0_on 243 = .ok (.aload_n 0, 1) := dk_42 (dk_at dksX0_on_10 7 rfl rfl)
theorem dX0_on_244 : decode cX0_on 244 = .ok (.getfield 87, 3) := dk_180 0 87 (dk_at dksX0_on_10 8 rfl rfl)
theorem dX0_on_247 : decode cX0_on 247 = .ok (.invokevirtual 291, 3) := dk_182 1 35 (dk_at dksX0_on_10 11 rfl rfl)
theorem dX0_on_250 : decode cX0_on 250 = .ok (.pop, 1) := dk_87 (dk_at dksX0_on_10 14 rfl rfl)
theorem dX0_on_251 : decode cX0_on 251 = .ok (.aload_n 0, 1) := dk_42 (dk_at dksX0_on_10 15 rfl rfl)
theorem dX0_on_252 : decode cX0_on 252 = .ok (.iconst 0, 1) := dk_3 (dk_at dksX0_on_10 16 rfl rfl)
theorem dX0_on_253 : decode cX0_on 253 = .ok (.putfield 150, 3) := dk_181 0 150 (dk_at dksX0_on_10 17 rfl rfl)
theorem dX0_on_256 : decode cX0_on 256 = .ok (.iconst 1, 1) := dk_4 (dk_at dksX0_on_10 20 rfl rfl)
theorem dX0_on_257 : decode cX0_on 257 = .ok (.ireturn, 1) := dk_172 (dk_at dksX0_on_10 21 rfl rfl)
abbrev cX0_status : ByteArray := prog_1_method_68_code
def yX0_status : MethodName := ⟨RX0, "status", "(I)I"⟩
def dkwX0_status_0 : List UInt8 := [27, 3, 8, 184, 0, 178, 153, 0, 12, 42, 180, 0, 62, 27, 46, 167, 0, 4, 2, 172]
abbrev dktX0_status_0 : List UInt8 := dkwX0_status_0 ++ []
theorem dksX0_status_0 : cX0_status.data.toList.drop 0 = dktX0_status_0 := by decide +kernel
theorem dX0_status_0 : decode cX0_status 0 = .ok (.iload_n 1, 1) := dk_27 (dk_at dksX0_status_0 0 rfl rfl)
theorem dX0_status_1 : decode cX0_status 1 = .ok (.iconst 0, 1) := dk_3 (dk_at dksX0_status_0 1 rfl rfl)
theorem dX0_status_2 : decode cX0_status 2 = .ok (.iconst 5, 1) := dk_8 (dk_at dksX0_status_0 2 rfl rfl)
theorem dX0_status_3 : decode cX0_status 3 = .ok (.invokestatic 178, 3) := dk_184 0 178 (dk_at dksX0_status_0 3 rfl rfl)
theorem dX0_status_6 : decode cX0_status 6 = .ok (.ifCond .eq 12, 3) := dk_153 0 12 (dk_at dksX0_status_0 6 rfl rfl)
theorem dX0_status_9 : decode cX0_status 9 = .ok (.aload_n 0, 1) := dk_42 (dk_at dksX0_status_0 9 rfl rfl)
theorem dX0_status_10 : decode cX0_status 10 = .ok (.getfield 62, 3) := dk_180 0 62 (dk_at dksX0_status_0 10 rfl rfl)
theorem dX0_status_13 : decode cX0_status 13 = .ok (.iload_n 1, 1) := dk_27 (dk_at dksX0_status_0 13 rfl rfl)
theorem dX0_status_14 : decode cX0_status 14 = .ok (.iaload, 1) := dk_46 (dk_at dksX0_status_0 14 rfl rfl)
theorem dX0_status_15 : decode cX0_status 15 = .ok (.goto 4, 3) := dk_167 0 4 (dk_at dksX0_status_0 15 rfl rfl)
theorem dX0_status_18 : decode cX0_status 18 = .ok (.iconst (-1), 1) := dk_2 (dk_at dksX0_status_0 18 rfl rfl)
theorem dX0_status_19 : decode cX0_status 19 = .ok (.ireturn, 1) := dk_172 (dk_at dksX0_status_0 19 rfl rfl)
