set_option maxRecDepth 100000
abbrev cX0_init : ByteArray := prog_1_method_7_code
def yX0_init : MethodName := ⟨RX0, "<init>", "()V"⟩
def dkwX0_init_10 : List UInt8 := [182, 0, 107, 42, 10, 181, 0, 110, 42, 16, 32, 188, 8, 181, 0, 114, 177]
abbrev dktX0_init_10 : List UInt8 := dkwX0_init_10 ++ []
def dkwX0_init_9 : List UInt8 := [180, 0, 68, 27, 187, 0, 66, 89, 183, 0, 72, 83, 132, 1, 1, 167, 255, 231, 42, 180, 0, 83]
abbrev dktX0_init_9 : List UInt8 := dkwX0_init_9 ++ dktX0_init_10
def dkwX0_init_8 : List UInt8 := [183, 0, 82, 83, 132, 1, 1, 167, 255, 233, 3, 60, 27, 42, 180, 0, 68, 190, 162, 0, 22, 42]
abbrev dktX0_init_8 : List UInt8 := dkwX0_init_8 ++ dktX0_init_9
def dkwX0_init_7 : List UInt8 := [189, 0, 80, 181, 0, 103, 3, 60, 27, 16, 20, 162, 0, 23, 42, 180, 0, 103, 27, 187, 0, 80, 89, 42]
abbrev dktX0_init_7 : List UInt8 := dkwX0_init_7 ++ dktX0_init_8
def dkwX0_init_6 : List UInt8 := [181, 0, 94, 42, 16, 16, 188, 10, 181, 0, 97, 42, 16, 8, 188, 10, 181, 0, 100, 42, 16, 20]
abbrev dktX0_init_6 : List UInt8 := dkwX0_init_6 ++ dktX0_init_7
def dkwX0_init_5 : List UInt8 := [187, 0, 80, 89, 42, 183, 0, 82, 181, 0, 87, 42, 16, 25, 188, 11, 181, 0, 90, 42, 16, 16, 188, 10]
abbrev dktX0_init_5 : List UInt8 := dkwX0_init_5 ++ dktX0_init_6
def dkwX0_init_4 : List UInt8 := [187, 0, 66, 89, 183, 0, 72, 181, 0, 77, 42, 187, 0, 80, 89, 42, 183, 0, 82, 181, 0, 83, 42]
abbrev dktX0_init_4 : List UInt8 := dkwX0_init_4 ++ dktX0_init_5
def dkwX0_init_3 : List UInt8 := [181, 0, 62, 42, 8, 189, 0, 66, 181, 0, 68, 42, 187, 0, 66, 89, 183, 0, 72, 181, 0, 73, 42]
abbrev dktX0_init_3 : List UInt8 := dkwX0_init_3 ++ dktX0_init_4
def dkwX0_init_2 : List UInt8 := [183, 0, 54, 181, 0, 55, 42, 187, 0, 52, 89, 183, 0, 54, 181, 0, 59, 42, 16, 6, 188, 10]
abbrev dktX0_init_2 : List UInt8 := dkwX0_init_2 ++ dktX0_init_3
def dkwX0_init_1 : List UInt8 := [42, 2, 181, 0, 39, 42, 187, 0, 43, 89, 42, 183, 0, 45, 181, 0, 48, 42, 187, 0, 52, 89]
abbrev dktX0_init_1 : List UInt8 := dkwX0_init_1 ++ dktX0_init_2
def dkwX0_init_0 : List UInt8 := [42, 183, 0, 22, 42, 187, 0, 28, 89, 183, 0, 30, 181, 0, 31, 42, 17, 6, 64, 188, 8, 181, 0, 35]
abbrev dktX0_init_0 : List UInt8 := dkwX0_init_0 ++ dktX0_init_1
theorem dksX0_init_0 : cX0_init.data.toList.drop 0 = dktX0_init_0 := by decide +kernel
theorem dksX0_init_1 : cX0_init.data.toList.drop 24 = dktX0_init_1 := dk_seg dksX0_init_0 24 rfl rfl
theorem dksX0_init_2 : cX0_init.data.toList.drop 46 = dktX0_init_2 := dk_seg dksX0_init_1 22 rfl rfl
theorem dksX0_init_3 : cX0_init.data.toList.drop 68 = dktX0_init_3 := dk_seg dksX0_init_2 22 rfl rfl
theorem dksX0_init_4 : cX0_init.data.toList.drop 91 = dktX0_init_4 := dk_seg dksX0_init_3 23 rfl rfl
theorem dksX0_init_5 : cX0_init.data.toList.drop 114 = dktX0_init_5 := dk_seg dksX0_init_4 23 rfl rfl
theorem dksX0_init_6 : cX0_init.data.toList.drop 138 = dktX0_init_6 := dk_seg dksX0_init_5 24 rfl rfl
theorem dksX0_init_7 : cX0_init.data.toList.drop 160 = dktX0_init_7 := dk_seg dksX0_init_6 22 rfl rfl
theorem dksX0_init_8 : cX0_init.data.toList.drop 184 = dktX0_init_8 := dk_seg dksX0_init_7 24 rfl rfl
theorem dksX0_init_9 : cX0_init.data.toList.drop 206 = dktX0_init_9 := dk_seg dksX0_init_8 22 rfl rfl
theorem dksX0_init_10 : cX0_init.data.toList.drop 228 = dktX0_init_10 := dk_seg dksX0_init_9 22 rfl rfl
theorem dX0_init_0 : decode cX0_init 0 = .ok (.aload_n 0, 1) := dk_42 (dk_at dksX0_init_0 0 rfl rfl)
theorem dX0_init_1 : decode cX0_init 1 = .ok (.invokespecial 22, 3) := dk_183 0 22 (dk_at dksX0_init_0 1 rfl rfl)
theorem dX0_init_4 : decode cX0_init 4 = .ok (.aload_n 0, 1) := dk_42 (dk_at dksX0_init_0 4 rfl rfl)
theorem dX0_init_5 : decode cX0_init 5 = .ok (.new 28, 3) := dk_187 0 28 (dk_at dksX0_init_0 5 rfl rfl)
theorem dX0_init_8 : decode cX0_init 8 = .ok (.dup, 1) := dk_89 (dk_at dksX0_init_0 8 rfl rfl)
theorem dX0_init_9 : decode cX0_init 9 = .ok (.invokespecial 30, 3) := dk_183 0 30 (dk_at dksX0_init_0 9 rfl rfl)
theorem dX0_init_12 : decode cX0_init 12 = .ok (.putfield 31, 3) := dk_181 0 31 (dk_at dksX0_init_0 12 rfl rfl)
theorem dX0_init_15 : decode cX0_init 15 = .ok (.aload_n 0, 1) := dk_42 (dk_at dksX0_init_0 15 rfl rfl)
theorem dX0_init_16 : decode cX0_init 16 = .ok (.sipush 1600, 3) := dk_17 6 64 (dk_at dksX0_init_0 16 rfl rfl)
theorem dX0_init_19 : decode cX0_init 19 = .ok (.newarray .byte, 2) := dk_188_8 (dk_at dksX0_init_0 19 rfl rfl)
theorem dX0_init_21 : decode cX0_init 21 = .ok (.putfield 35, 3) := dk_181 0 35 (dk_at dksX0_init_0 21 rfl rfl)
theorem dX0_init_24 : decode cX0_init 24 = .ok (.aload_n 0, 1) := dk_42 (dk_at dksX0_init_1 0 rfl rfl)
theorem dX0_init_25 : decode cX0_init 25 = .ok (.iconst (-1), 1) := dk_2 (dk_at dksX0_init_1 1 rfl rfl)
theorem dX0_init_26 : decode cX0_init 26 = .ok (.putfield 39, 3) := dk_181 0 39 (dk_at dksX0_init_1 2 rfl rfl)
theorem dX0_init_29 : decode cX0_init 29 = .ok (.aload_n 0, 1) := dk_42 (dk_at dksX0_init_1 5 rfl rfl)
theorem dX0_init_30 : decode cX0_init 30 = .ok (.new 43, 3) := dk_187 0 43 (dk_at dksX0_init_1 6 rfl rfl)
theorem dX0_init_33 : decode cX0_init 33 = .ok (.dup, 1) := dk_89 (dk_at dksX0_init_1 9 rfl rfl)
theorem dX0_init_34 : decode cX0_init 34 = .ok (.aload_n 0, 1) := dk_42 (dk_at dksX0_init_1 10 rfl rfl)
theorem dX0_init_35 : decode cX0_init 35 = .ok (.invokespecial 45, 3) := dk_183 0 45 (dk_at dksX0_init_1 11 rfl rfl)
theorem dX0_init_38 : decode cX0_init 38 = .ok (.putfield 48, 3) := dk_181 0 48 (dk_at dksX0_init_1 14 rfl rfl)
theorem dX0_init_41 : decode cX0_init 41 = .ok (.aload_n 0, 1) := dk_42 (dk_at dksX0_init_1 17 rfl rfl)
theorem dX0_init_42 : decode cX0_init 42 = .ok (.new 52, 3) := dk_187 0 52 (dk_at dksX0_init_1 18 rfl rfl)
theorem dX0_init_45 : decode cX0_init 45 = .ok (.dup, 1) := dk_89 (dk_at dksX0_init_1 21 rfl rfl)
theorem dX0_init_46 : decode cX0_init 46 = .ok (.invokespecial 54, 3) := dk_183 0 54 (dk_at dksX0_init_2 0 rfl rfl)
theorem dX0_init_49 : decode cX0_init 49 = .ok (.putfield 55, 3) := dk_181 0 55 (dk_at dksX0_init_2 3 rfl rfl)
theorem dX0_init_52 : decode cX0_init 52 = .ok (.aload_n 0, 1) := dk_42 (dk_at dksX0_init_2 6 rfl rfl)
theorem dX0_init_53 : decode cX0_init 53 = .ok (.new 52, 3) := dk_187 0 52 (dk_at dksX0_init_2 7 rfl rfl)
theorem dX0_init_56 : decode cX0_init 56 = .ok (.dup, 1) := dk_89 (dk_at dksX0_init_2 10 rfl rfl)
theorem dX0_init_57 : decode cX0_init 57 = .ok (.invokespecial 54, 3) := dk_183 0 54 (dk_at dksX0_init_2 11 rfl rfl)
theorem dX0_init_60 : decode cX0_init 60 = .ok (.putfield 59, 3) := dk_181 0 59 (dk_at dksX0_init_2 14 rfl rfl)
theorem dX0_init_63 : decode cX0_init 63 = .ok (.aload_n 0, 1) := dk_42 (dk_at dksX0_init_2 17 rfl rfl)
theorem dX0_init_64 : decode cX0_init 64 = .ok (.bipush 6, 2) := dk_16 6 (dk_at dksX0_init_2 18 rfl rfl)
theorem dX0_init_66 : decode cX0_init 66 = .ok (.newarray .int, 2) := dk_188_10 (dk_at dksX0_init_2 20 rfl rfl)
theorem dX0_init_68 : decode cX0_init 68 = .ok (.putfield 62, 3) := dk_181 0 62 (dk_at dksX0_init_3 0 rfl rfl)
theorem dX0_init_71 : decode cX0_init 71 = .ok (.aload_n 0, 1) := dk_42 (dk_at dksX0_init_3 3 rfl rfl)
theorem dX0_init_72 : decode cX0_init 72 = .ok (.iconst 5, 1) := dk_8 (dk_at dksX0_init_3 4 rfl rfl)
theorem dX0_init_73 : decode cX0_init 73 = .ok (.anewarray 66, 3) := dk_189 0 66 (dk_at dksX0_init_3 5 rfl rfl)
theorem dX0_init_76 : decode cX0_init 76 = .ok (.putfield 68, 3) := dk_181 0 68 (dk_at dksX0_init_3 8 rfl rfl)
theorem dX0_init_79 : decode cX0_init 79 = .ok (.aload_n 0, 1) := dk_42 (dk_at dksX0_init_3 11 rfl rfl)
theorem dX0_init_80 : decode cX0_init 80 = .ok (.new 66, 3) := dk_187 0 66 (dk_at dksX0_init_3 12 rfl rfl)
theorem dX0_init_83 : decode cX0_init 83 = .ok (.dup, 1) := dk_89 (dk_at dksX0_init_3 15 rfl rfl)
theorem dX0_init_84 : decode cX0_init 84 = .ok (.invokespecial 72, 3) := dk_183 0 72 (dk_at dksX0_init_3 16 rfl rfl)
theorem dX0_init_87 : decode cX0_init 87 = .ok (.putfield 73, 3) := dk_181 0 73 (dk_at dksX0_init_3 19 rfl rfl)
theorem dX0_init_90 : decode cX0_init 90 = .ok (.aload_n 0, 1) := dk_42 (dk_at dksX0_init_3 22 rfl rfl)
theorem dX0_init_91 : decode cX0_init 91 = .ok (.new 66, 3) := dk_187 0 66 (dk_at dksX0_init_4 0 rfl rfl)
theorem dX0_init_94 : decode cX0_init 94 = .ok (.dup, 1) := dk_89 (dk_at dksX0_init_4 3 rfl rfl)
theorem dX0_init_95 : decode cX0_init 95 = .ok (.invokespecial 72, 3) := dk_183 0 72 (dk_at dksX0_init_4 4 rfl rfl)
theorem dX0_init_98 : decode cX0_init 98 = .ok (.putfield 77, 3) := dk_181 0 77 (dk_at dksX0_init_4 7 rfl rfl)
theorem dX0_init_101 : decode cX0_init 101 = .ok (.aload_n 0, 1) := dk_42 (dk_at dksX0_init_4 10 rfl rfl)
theorem dX0_init_102 : decode cX0_init 102 = .ok (.new 80, 3) := dk_187 0 80 (dk_at dksX0_init_4 11 rfl rfl)
theorem dX0_init_105 : decode cX0_init 105 = .ok (.dup, 1) := dk_89 (dk_at dksX0_init_4 14 rfl rfl)
theorem dX0_init_106 : decode cX0_init 106 = .ok (.aload_n 0, 1) := dk_42 (dk_at dksX0_init_4 15 rfl rfl)
theorem dX0_init_107 : decode cX0_init 107 = .ok (.invokespecial 82, 3) := dk_183 0 82 (dk_at dksX0_init_4 16 rfl rfl)
theorem dX0_init_110 : decode cX0_init 110 = .ok (.putfield 83, 3) := dk_181 0 83 (dk_at dksX0_init_4 19 rfl rfl)
theorem dX0_init_113 : decode cX0_init 113 = .ok (.aload_n 0, 1) := dk_42 (dk_at dksX0_init_4 22 rfl rfl)
theorem dX0_init_114 : decode cX0_init 114 = .ok (.new 80, 3) := dk_187 0 80 (dk_at dksX0_init_5 0 rfl rfl)
theorem dX0_init_117 : decode cX0_init 117 = .ok (.dup, 1) := dk_89 (dk_at dksX0_init_5 3 rfl rfl)
theorem dX0_init_118 : decode cX0_init 118 = .ok (.aload_n 0, 1) := dk_42 (dk_at dksX0_init_5 4 rfl rfl)
theorem dX0_init_119 : decode cX0_init 119 = .ok (.invokespecial 82, 3) := dk_183 0 82 (dk_at dksX0_init_5 5 rfl rfl)
theorem dX0_init_122 : decode cX0_init 122 = .ok (.putfield 87, 3) := dk_181 0 87 (dk_at dksX0_init_5 8 rfl rfl)
theorem dX0_init_125 : decode cX0_init 125 = .ok (.aload_n 0, 1) := dk_42 (dk_at dksX0_init_5 11 rfl rfl)
theorem dX0_init_126 : decode cX0_init 126 = .ok (.bipush 25, 2) := dk_16 25 (dk_at dksX0_init_5 12 rfl rfl)
theorem dX0_init_128 : decode cX0_init 128 = .ok (.newarray .long, 2) := dk_188_11 (dk_at dksX0_init_5 14 rfl rfl)
theorem dX0_init_130 : decode cX0_init 130 = .ok (.putfield 90, 3) := dk_181 0 90 (dk_at dksX0_init_5 16 rfl rfl)
theorem dX0_init_133 : decode cX0_init 133 = .ok (.aload_n 0, 1) := dk_42 (dk_at dksX0_init_5 19 rfl rfl)
theorem dX0_init_134 : decode cX0_init 134 = .ok (.bipush 16, 2) := dk_16 16 (dk_at dksX0_init_5 20 rfl rfl)
theorem dX0_init_136 : decode cX0_init 136 = .ok (.newarray .int, 2) := dk_188_10 (dk_at dksX0_init_5 22 rfl rfl)
theorem dX0_init_138 : decode cX0_init 138 = .ok (.putfield 94, 3) := dk_181 0 94 (dk_at dksX0_init_6 0 rfl rfl)
theorem dX0_init_141 : decode cX0_init 141 = .ok (.aload_n 0, 1) := dk_42 (dk_at dksX0_init_6 3 rfl rfl)
theorem dX0_init_142 : decode cX0_init 142 = .ok (.bipush 16, 2) := dk_16 16 (dk_at dksX0_init_6 4 rfl rfl)
theorem dX0_init_144 : decode cX0_init 144 = .ok (.newarray .int, 2) := dk_188_10 (dk_at dksX0_init_6 6 rfl rfl)
theorem dX0_init_146 : decode cX0_init 146 = .ok (.putfield 97, 3) := dk_181 0 97 (dk_at dksX0_init_6 8 rfl rfl)
theorem dX0_init_149 : decode cX0_init 149 = .ok (.aload_n 0, 1) := dk_42 (dk_at dksX0_init_6 11 rfl rfl)
theorem dX0_init_150 : decode cX0_init 150 = .ok (.bipush 8, 2) := dk_16 8 (dk_at dksX0_init_6 12 rfl rfl)
theorem dX0_init_152 : decode cX0_init 152 = .ok (.newarray .int, 2) := dk_188_10 (dk_at dksX0_init_6 14 rfl rfl)
theorem dX0_init_154 : decode cX0_init 154 = .ok (.putfield 100, 3) := dk_181 0 100 (dk_at dksX0_init_6 16 rfl rfl)
theorem dX0_init_157 : decode cX0_init 157 = .ok (.aload_n 0, 1) := dk_42 (dk_at dksX0_init_6 19 rfl rfl)
theorem dX0_init_158 : decode cX0_init 158 = .ok (.bipush 20, 2) := dk_16 20 (dk_at dksX0_init_6 20 rfl rfl)
theorem dX0_init_160 : decode cX0_init 160 = .ok (.anewarray 80, 3) := dk_189 0 80 (dk_at dksX0_init_7 0 rfl rfl)
theorem dX0_init_163 : decode cX0_init 163 = .ok (.putfield 103, 3) := dk_181 0 103 (dk_at dksX0_init_7 3 rfl rfl)
theorem dX0_init_166 : decode cX0_init 166 = .ok (.iconst 0, 1) := dk_3 (dk_at dksX0_init_7 6 rfl rfl)
theorem dX0_init_167 : decode cX0_init 167 = .ok (.istore_n 1, 1) := dk_60 (dk_at dksX0_init_7 7 rfl rfl)
theorem dX0_init_168 : decode cX0_init 168 = .ok (.iload_n 1, 1) := dk_27 (dk_at dksX0_init_7 8 rfl rfl)
theorem dX0_init_169 : decode cX0_init 169 = .ok (.bipush 20, 2) := dk_16 20 (dk_at dksX0_init_7 9 rfl rfl)
theorem dX0_init_171 : decode cX0_init 171 = .ok (.if_icmp .ge 23, 3) := dk_162 0 23 (dk_at dksX0_init_7 11 rfl rfl)
theorem dX0_init_174 : decode cX0_init 174 = .ok (.aload_n 0, 1) := dk_42 (dk_at dksX0_init_7 14 rfl rfl)
theorem dX0_init_175 : decode cX0_init 175 = .ok (.getfield 103, 3) := dk_180 0 103 (dk_at dksX0_init_7 15 rfl rfl)
theorem dX0_init_178 : decode cX0_init 178 = .ok (.iload_n 1, 1) := dk_27 (dk_at dksX0_init_7 18 rfl rfl)
theorem dX0_init_179 : decode cX0_init 179 = .ok (.new 80, 3) := dk_187 0 80 (dk_at dksX0_init_7 19 rfl rfl)
theorem dX0_init_182 : decode cX0_init 182 = .ok (.dup, 1) := dk_89 (dk_at dksX0_init_7 22 rfl rfl)
theorem dX0_init_183 : decode cX0_init 183 = .ok (.aload_n 0, 1) := dk_42 (dk_at dksX0_init_7 23 rfl rfl)
theorem dX0_init_184 : decode cX0_init 184 = .ok (.invokespecial 82, 3) := dk_183 0 82 (dk_at dksX0_init_8 0 rfl rfl)
theorem dX0_init_187 : decode cX0_init 187 = .ok (.aastore, 1) := dk_83 (dk_at dksX0_init_8 3 rfl rfl)
theorem dX0_init_188 : decode cX0_init 188 = .ok (.iinc 1 1, 3) := dk_132 1 1 (dk_at dksX0_init_8 4 rfl rfl)
theorem dX0_init_191 : decode cX0_init 191 = .ok (.goto (-23), 3) := dk_167 255 233 (dk_at dksX0_init_8 7 rfl rfl)
theorem dX0_init_194 : decode cX0_init 194 = .ok (.iconst 0, 1) := dk_3 (dk_at dksX0_init_8 10 rfl rfl)
theorem dX0_init_195 : decode cX0_init 195 = .ok (.istore_n 1, 1) := dk_60 (dk_at dksX0_init_8 11 rfl rfl)
theorem dX0_init_196 : decode cX0_init 196 = .ok (.iload_n 1, 1) := dk_27 (dk_at dksX0_init_8 12 rfl rfl)
theorem dX0_init_197 : decode cX0_init 197 = .ok (.aload_n 0, 1) := dk_42 (dk_at dksX0_init_8 13 rfl rfl)
theorem dX0_init_198 : decode cX0_init 198 = .ok (.getfield 68, 3) := dk_180 0 68 (dk_at dksX0_init_8 14 rfl rfl)
theorem dX0_init_201 : decode cX0_init 201 = .ok (.arraylength, 1) := dk_190 (dk_at dksX0_init_8 17 rfl rfl)
theorem dX0_init_202 : decode cX0_init 202 = .ok (.if_icmp .ge 22, 3) := dk_162 0 22 (dk_at dksX0_init_8 18 rfl rfl)
theorem dX0_init_205 : decode cX0_init 205 = .ok (.aload_n 0, 1) := dk_42 (dk_at dksX0_init_8 21 rfl rfl)
theorem dX0_init_206 : decode cX0_init 206 = .ok (.getfield 68, 3) := dk_180 0 68 (dk_at dksX0_init_9 0 rfl rfl)
theorem dX0_init_209 : decode cX0_init 209 = .ok (.iload_n 1, 1) := dk_27 (dk_at dksX0_init_9 3 rfl rfl)
theorem dX0_init_210 : decode cX0_init 210 = .ok (.new 66, 3) := dk_187 0 66 (dk_at dksX0_init_9 4 rfl rfl)
theorem dX0_init_213 : decode cX0_init 213 = .ok (.dup, 1) := dk_89 (dk_at dksX0_init_9 7 rfl rfl)
theorem dX0_init_214 : decode cX0_init 214 = .ok (.invokespecial 72, 3) := dk_183 0 72 (dk_at dksX0_init_9 8 rfl rfl)
theorem dX0_init_217 : decode cX0_init 217 = .ok (.aastore, 1) := dk_83 (dk_at dksX0_init_9 11 rfl rfl)
theorem dX0_init_218 : decode cX0_init 218 = .ok (.iinc 1 1, 3) := dk_132 1 1 (dk_at dksX0_init_9 12 rfl rfl)
theorem dX0_init_221 : decode cX0_init 221 = .ok (.goto (-25), 3) := dk_167 255 231 (dk_at dksX0_init_9 15 rfl rfl)
theorem dX0_init_224 : decode cX0_init 224 = .ok (.aload_n 0, 1) := dk_42 (dk_at dksX0_init_9 18 rfl rfl)
theorem dX0_init_225 : decode cX0_init 225 = .ok (.getfield 83, 3) := dk_180 0 83 (dk_at dksX0_init_9 19 rfl rfl)
theorem dX0_init_228 : decode cX0_init 228 = .ok (.invokevirtual 107, 3) := dk_182 0 107 (dk_at dksX0_init_10 0 rfl rfl)
theorem dX0_init_231 : decode cX0_init 231 = .ok (.aload_n 0, 1) := dk_42 (dk_at dksX0_init_10 3 rfl rfl)
theorem dX0_init_232 : decode cX0_init 232 = .ok (.lconst 1, 1) := dk_10 (dk_at dksX0_init_10 4 rfl rfl)
theorem dX0_init_233 : decode cX0_init 233 = .ok (.putfield 110, 3) := dk_181 0 110 (dk_at dksX0_init_10 5 rfl rfl)
theorem dX0_init_236 : decode cX0_init 236 = .ok (.aload_n 0, 1) := dk_42 (dk_at dksX0_init_10 8 rfl rfl)
theorem dX0_init_237 : decode cX0_init 237 = .ok (.bipush 32, 2) := dk_16 32 (dk_at dksX0_init_10 9 rfl rfl)
theorem dX0_init_239 : decode cX0_init 239 = .ok (.newarray .byte, 2) := dk_188_8 (dk_at dksX0_init_10 11 rfl rfl)
theorem dX0_init_241 : decode cX0_init 241 = .ok (.putfield 114, 3) := dk_181 0 114 (dk_at dksX0_init_10 13 rfl rfl)
theorem dX0_init_244 : decode cX0_init 244 = .ok (.return_, 1) := dk_177 (dk_at dksX0_init_10 16 rfl rfl)
abbrev cX0_men : ByteArray := prog_1_method_16_code
def yX0_men : MethodName := ⟨RX0, "men", "()I"⟩
def dkwX0_men_0 : List UInt8 := [42, 180, 0, 31, 180, 0, 162, 185, 0, 166, 1, 0, 172]
abbrev dktX0_men_0 : List UInt8 := dkwX0_men_0 ++ []
theorem dksX0_men_0 : cX0_men.data.toList.drop 0 = dktX0_men_0 := by decide +kernel
theorem dX0_men_0 : decode cX0_men 0 = .ok (.aload_n 0, 1) := dk_42 (dk_at dksX0_men_0 0 rfl rfl)
theorem dX0_men_1 : decode cX0_men 1 = .ok (.getfield 31, 3) := dk_180 0 31 (dk_at dksX0_men_0 1 rfl rfl)
theorem dX0_men_4 : decode cX0_men 4 = .ok (.getfield 162, 3) := dk_180 0 162 (dk_at dksX0_men_0 4 rfl rfl)
theorem dX0_men_7 : decode cX0_men 7 = .ok (.invokeinterface 166 1, 5) := by decide +kernel
theorem dX0_men_12 : decode cX0_men 12 = .ok (.ireturn, 1) := dk_172 (dk_at dksX0_men_0 12 rfl rfl)
abbrev cX0_kindOf : ByteArray := prog_1_method_22_code
def yX0_kindOf : MethodName := ⟨RX0, "kindOf", "(I)LGardenChess$Kind;"⟩
def dkwX0_kindOf_0 : List UInt8 := [42, 180, 0, 31, 180, 0, 189, 42, 27, 182, 0, 192, 180, 0, 196, 185, 0, 183, 2, 0, 192, 0, 197, 176]
abbrev dktX0_kindOf_0 : List UInt8 := dkwX0_kindOf_0 ++ []
theorem dksX0_kindOf_0 : cX0_kindOf.data.toList.drop 0 = dktX0_kindOf_0 := by decide +kernel
theorem dX0_kindOf_0 : decode cX0_kindOf 0 = .ok (.aload_n 0, 1) := dk_42 (dk_at dksX0_kindOf_0 0 rfl rfl)
theorem dX0_kindOf_1 : decode cX0_kindOf 1 = .ok (.getfield 31, 3) := dk_180 0 31 (dk_at dksX0_kindOf_0 1 rfl rfl)
theorem dX0_kindOf_4 : decode cX0_kindOf 4 = .ok (.getfield 189, 3) := dk_180 0 189 (dk_at dksX0_kindOf_0 4 rfl rfl)
theorem dX0_kindOf_7 : decode cX0_kindOf 7 = .ok (.aload_n 0, 1) := dk_42 (dk_at dksX0_kindOf_0 7 rfl rfl)
theorem dX0_kindOf_8 : decode cX0_kindOf 8 = .ok (.iload_n 1, 1) := dk_27 (dk_at dksX0_kindOf_0 8 rfl rfl)
theorem dX0_kindOf_9 : decode cX0_kindOf 9 = .ok (.invokevirtual 192, 3) := dk_182 0 192 (dk_at dksX0_kindOf_0 9 rfl rfl)
theorem dX0_kindOf_12 : decode cX0_kindOf 12 = .ok (.getfield 196, 3) := dk_180 0 196 (dk_at dksX0_kindOf_0 12 rfl rfl)
theorem dX0_kindOf_15 : decode cX0_kindOf 15 = .ok (.invokeinterface 183 2, 5) := by decide +kernel
theorem dX0_kindOf_20 : decode cX0_kindOf 20 = .ok (.checkcast 197, 3) := dk_192 0 197 (dk_at dksX0_kindOf_0 20 rfl rfl)
theorem dX0_kindOf_23 : decode cX0_kindOf 23 = .ok (.areturn, 1) := dk_176 (dk_at dksX0_kindOf_0 23 rfl rfl)
abbrev cX0_manOf : ByteArray := prog_1_method_21_code
def yX0_manOf : MethodName := ⟨RX0, "manOf", "(I)LGardenChess$Man;"⟩
def dkwX0_manOf_0 : List UInt8 := [42, 180, 0, 31, 180, 0, 162, 27, 185, 0, 183, 2, 0, 192, 0, 187, 176]
abbrev dktX0_manOf_0 : List UInt8 := dkwX0_manOf_0 ++ []
theorem dksX0_manOf_0 : cX0_manOf.data.toList.drop 0 = dktX0_manOf_0 := by decide +kernel
theorem dX0_manOf_0 : decode cX0_manOf 0 = .ok (.aload_n 0, 1) := dk_42 (dk_at dksX0_manOf_0 0 rfl rfl)
theorem dX0_manOf_1 : decode cX0_manOf 1 = .ok (.getfield 31, 3) := dk_180 0 31 (dk_at dksX0_manOf_0 1 rfl rfl)
theorem dX0_manOf_4 : decode cX0_manOf 4 = .ok (.getfield 162, 3) := dk_180 0 162 (dk_at dksX0_manOf_0 4 rfl rfl)
theorem dX0_manOf_7 : decode cX0_manOf 7 = .ok (.iload_n 1, 1) := dk_27 (dk_at dksX0_manOf_0 7 rfl rfl)
theorem dX0_manOf_8 : decode cX0_manOf 8 = .ok (.invokeinterface 183 2, 5) := by decide +kernel
theorem dX0_manOf_13 : decode cX0_manOf 13 = .ok (.checkcast 187, 3) := dk_192 0 187 (dk_at dksX0_manOf_0 13 rfl rfl)
theorem dX0_manOf_16 : decode cX0_manOf 16 = .ok (.areturn, 1) := dk_176 (dk_at dksX0_manOf_0 16 rfl rfl)
abbrev cX0_feed : ByteArray := prog_1_method_10_code
def yX0_feed : MethodName := ⟨RX0, "feed", "(IIIII)I"⟩
def dkwX0_feed_2 : List UInt8 := [180, 0, 117, 172]
abbrev dktX0_feed_2 : List UInt8 := dkwX0_feed_2 ++ []
def dkwX0_feed_1 : List UInt8 := [42, 28, 182, 0, 124, 42, 29, 182, 0, 124, 42, 21, 4, 182, 0, 124, 42, 21, 5, 182, 0, 124, 42]
abbrev dktX0_feed_1 : List UInt8 := dkwX0_feed_1 ++ dktX0_feed_2
def dkwX0_feed_0 : List UInt8 := [42, 180, 0, 117, 16, 20, 96, 17, 6, 64, 164, 0, 9, 42, 3, 182, 0, 120, 172, 42, 27, 182, 0, 124]
abbrev dktX0_feed_0 : List UInt8 := dkwX0_feed_0 ++ dktX0_feed_1
theorem dksX0_feed_0 : cX0_feed.data.toList.drop 0 = dktX0_feed_0 := by decide +kernel
theorem dksX0_feed_1 : cX0_feed.data.toList.drop 24 = dktX0_feed_1 := dk_seg dksX0_feed_0 24 rfl rfl
theorem dksX0_feed_2 : cX0_feed.data.toList.drop 47 = dktX0_feed_2 := dk_seg dksX0_feed_1 23 rfl rfl
theorem dX0_feed_0 : decode cX0_feed 0 = .ok (.aload_n 0, 1) := dk_42 (dk_at dksX0_feed_0 0 rfl rfl)
theorem dX0_feed_1 : decode cX0_feed 1 = .ok (.getfield 117, 3) := dk_180 0 117 (dk_at dksX0_feed_0 1 rfl rfl)
theorem dX0_feed_4 : decode cX0_feed 4 = .ok (.bipush 20, 2) := dk_16 20 (dk_at dksX0_feed_0 4 rfl rfl)
theorem dX0_feed_6 : decode cX0_feed 6 = .ok (.iadd, 1) := dk_96 (dk_at dksX0_feed_0 6 rfl rfl)
theorem dX0_feed_7 : decode cX0_feed 7 = .ok (.sipush 1600, 3) := dk_17 6 64 (dk_at dksX0_feed_0 7 rfl rfl)
theorem dX0_feed_10 : decode cX0_feed 10 = .ok (.if_icmp .le 9, 3) := dk_164 0 9 (dk_at dksX0_feed_0 10 rfl rfl)
theorem dX0_feed_13 : decode cX0_feed 13 = .ok (.aload_n 0, 1) := dk_42 (dk_at dksX0_feed_0 13 rfl rfl)
theorem dX0_feed_14 : decode cX0_feed 14 = .ok (.iconst 0, 1) := dk_3 (dk_at dksX0_feed_0 14 rfl rfl)
theorem dX0_feed_15 : decode cX0_feed 15 = .ok (.invokevirtual 120, 3) := dk_182 0 120 (dk_at dksX0_feed_0 15 rfl rfl)
theorem dX0_feed_18 : decode cX0_feed 18 = .ok (.ireturn, 1) := dk_172 (dk_at dksX0_feed_0 18 rfl rfl)
theorem dX0_feed_19 : decode cX0_feed 19 = .ok (.aload_n 0, 1) := dk_42 (dk_at dksX0_feed_0 19 rfl rfl)
theorem dX0_feed_20 : decode cX0_feed 20 = .ok (.iload_n 1, 1) := dk_27 (dk_at dksX0_feed_0 20 rfl rfl)
theorem dX0_feed_21 : decode cX0_feed 21 = .ok (.invokevirtual 124, 3) := dk_182 0 124 (dk_at dksX0_feed_0 21 rfl rfl)
theorem dX0_feed_24 : decode cX0_feed 24 = .ok (.aload_n 0, 1) := dk_42 (dk_at dksX0_feed_1 0 rfl rfl)
theorem dX0_feed_25 : decode cX0_feed 25 = .ok (.iload_n 2, 1) := dk_28 (dk_at dksX0_feed_1 1 rfl rfl)
theorem dX0_feed_26 : decode cX0_feed 26 = .ok (.invokevirtual 124, 3) := dk_182 0 124 (dk_at dksX0_feed_1 2 rfl rfl)
theorem dX0_feed_29 : decode cX0_feed 29 = .ok (.aload_n 0, 1) := dk_42 (dk_at dksX0_feed_1 5 rfl rfl)
theorem dX0_feed_30 : decode cX0_feed 30 = .ok (.iload_n 3, 1) := dk_29 (dk_at dksX0_feed_1 6 rfl rfl)
theorem dX0_feed_31 : decode cX0_feed 31 = .ok (.invokevirtual 124, 3) := dk_182 0 124 (dk_at dksX0_feed_1 7 rfl rfl)
theorem dX0_feed_34 : decode cX0_feed 34 = .ok (.aload_n 0, 1) := dk_42 (dk_at dksX0_feed_1 10 rfl rfl)
theorem dX0_feed_35 : decode cX0_feed 35 = .ok (.iload 4, 2) := dk_21 4 (dk_at dksX0_feed_1 11 rfl rfl)
theorem dX0_feed_37 : decode cX0_feed 37 = .ok (.invokevirtual 124, 3) := dk_182 0 124 (dk_at dksX0_feed_1 13 rfl rfl)
theorem dX0_feed_40 : decode cX0_feed 40 = .ok (.aload_n 0, 1) := dk_42 (dk_at dksX0_feed_1 16 rfl rfl)
theorem dX0_feed_41 : decode cX0_feed 41 = .ok (.iload 5, 2) := dk_21 5 (dk_at dksX0_feed_1 17 rfl rfl)
theorem dX0_feed_43 : decode cX0_feed 43 = .ok (.invokevirtual 124, 3) := dk_182 0 124 (dk_at dksX0_feed_1 19 rfl rfl)
theorem dX0_feed_46 : decode cX0_feed 46 = .ok (.aload_n 0, 1) := dk_42 (dk_at dksX0_feed_1 22 rfl rfl)
theorem dX0_feed_47 : decode cX0_feed 47 = .ok (.getfield 117, 3) := dk_180 0 117 (dk_at dksX0_feed_2 0 rfl rfl)
theorem dX0_feed_50 : decode cX0_feed 50 = .ok (.ireturn, 1) := dk_172 (dk_at dksX0_feed_2 3 rfl rfl)
abbrev cX0_refuses : ByteArray := prog_1_method_8_code
def yX0_refuses : MethodName := ⟨RX0, "refuses", "(I)I"⟩
def dkwX0_refuses_0 : List UInt8 := [42, 180, 0, 62, 27, 92, 46, 4, 96, 79, 2, 172]
abbrev dktX0_refuses_0 : List UInt8 := dkwX0_refuses_0 ++ []
theorem dksX0_refuses_0 : cX0_refuses.data.toList.drop 0 = dktX0_refuses_0 := by decide +kernel
theorem dX0_refuses_0 : decode cX0_refuses 0 = .ok (.aload_n 0, 1) := dk_42 (dk_at dksX0_refuses_0 0 rfl rfl)
theorem dX0_refuses_1 : decode cX0_refuses 1 = .ok (.getfield 62, 3) := dk_180 0 62 (dk_at dksX0_refuses_0 1 rfl rfl)
theorem dX0_refuses_4 : decode cX0_refuses 4 = .ok (.iload_n 1, 1) := dk_27 (dk_at dksX0_refuses_0 4 rfl rfl)
theorem dX0_refuses_5 : decode cX0_refuses 5 = .ok (.dup2, 1) := dk_92 (dk_at dksX0_refuses_0 5 rfl rfl)
theorem dX0_refuses_6 : decode cX0_refuses 6 = .ok (.iaload, 1) := dk_46 (dk_at dksX0_refuses_0 6 rfl rfl)
theorem dX0_refuses_7 : decode cX0_refuses 7 = .ok (.iconst 1, 1) := dk_4 (dk_at dksX0_refuses_0 7 rfl rfl)
theorem dX0_refuses_8 : decode cX0_refuses 8 = .ok (.iadd, 1) := dk_96 (dk_at dksX0_refuses_0 8 rfl rfl)
theorem dX0_refuses_9 : decode cX0_refuses 9 = .ok (.iastore, 1) := dk_79 (dk_at dksX0_refuses_0 9 rfl rfl)
theorem dX0_refuses_10 : decode cX0_refuses 10 = .ok (.iconst (-1), 1) := dk_2 (dk_at dksX0_refuses_0 10 rfl rfl)
theorem dX0_refuses_11 : decode cX0_refuses 11 = .ok (.ireturn, 1) := dk_172 (dk_at dksX0_refuses_0 11 rfl rfl)
abbrev cX0_put : ByteArray := prog_1_method_9_code
def yX0_put : MethodName := ⟨RX0, "put", "(I)V"⟩
def dkwX0_put_1 : List UInt8 := [122, 145, 84, 132, 2, 248, 167, 255, 229, 177]
abbrev dktX0_put_1 : List UInt8 := dkwX0_put_1 ++ []
def dkwX0_put_0 : List UInt8 := [16, 24, 61, 28, 155, 0, 29, 42, 180, 0, 35, 42, 89, 180, 0, 117, 90, 4, 96, 181, 0, 117, 27, 28]
abbrev dktX0_put_0 : List UInt8 := dkwX0_put_0 ++ dktX0_put_1
theorem dksX0_put_0 : cX0_put.data.toList.drop 0 = dktX0_put_0 := by decide +kernel
theorem dksX0_put_1 : cX0_put.data.toList.drop 24 = dktX0_put_1 := dk_seg dksX0_put_0 24 rfl rfl
theorem dX0_put_0 : decode cX0_put 0 = .ok (.bipush 24, 2) := dk_16 24 (dk_at dksX0_put_0 0 rfl rfl)
theorem dX0_put_2 : decode cX0_put 2 = .ok (.istore_n 2, 1) := dk_61 (dk_at dksX0_put_0 2 rfl rfl)
theorem dX0_put_3 : decode cX0_put 3 = .ok (.iload_n 2, 1) := dk_28 (dk_at dksX0_put_0 3 rfl rfl)
theorem dX0_put_4 : decode cX0_put 4 = .ok (.ifCond .lt 29, 3) := dk_155 0 29 (dk_at dksX0_put_0 4 rfl rfl)
theorem dX0_put_7 : decode cX0_put 7 = .ok (.aload_n 0, 1) := dk_42 (dk_at dksX0_put_0 7 rfl rfl)
theorem dX0_put_8 : decode cX0_put 8 = .ok (.getfield 35, 3) := dk_180 0 35 (dk_at dksX0_put_0 8 rfl rfl)
theorem dX0_put_11 : decode cX0_put 11 = .ok (.aload_n 0, 1) := dk_42 (dk_at dksX0_put_0 11 rfl rfl)
theorem dX0_put_12 : decode cX0_put 12 = .ok (.dup, 1) := dk_89 (dk_at dksX0_put_0 12 rfl rfl)
theorem dX0_put_13 : decode cX0_put 13 = .ok (.getfield 117, 3) := dk_180 0 117 (dk_at dksX0_put_0 13 rfl rfl)
theorem dX0_put_16 : decode cX0_put 16 = .ok (.dup_x1, 1) := dk_90 (dk_at dksX0_put_0 16 rfl rfl)
theorem dX0_put_17 : decode cX0_put 17 = .ok (.iconst 1, 1) := dk_4 (dk_at dksX0_put_0 17 rfl rfl)
theorem dX0_put_18 : decode cX0_put 18 = .ok (.iadd, 1) := dk_96 (dk_at dksX0_put_0 18 rfl rfl)
theorem dX0_put_19 : decode cX0_put 19 = .ok (.putfield 117, 3) := dk_181 0 117 (dk_at dksX0_put_0 19 rfl rfl)
theorem dX0_put_22 : decode cX0_put 22 = .ok (.iload_n 1, 1) := dk_27 (dk_at dksX0_put_0 22 rfl rfl)
theorem dX0_put_23 : decode cX0_put 23 = .ok (.iload_n 2, 1) := dk_28 (dk_at dksX0_put_0 23 rfl rfl)
theorem dX0_put_24 : decode cX0_put 24 = .ok (.ishr, 1) := dk_122 (dk_at dksX0_put_1 0 rfl rfl)
theorem dX0_put_25 : decode cX0_put 25 = .ok (.i2b, 1) := dk_145 (dk_at dksX0_put_1 1 rfl rfl)
theorem dX0_put_26 : decode cX0_put 26 = .ok (.bastore, 1) := dk_84 (dk_at dksX0_put_1 2 rfl rfl)
theorem dX0_put_27 : decode cX0_put 27 = .ok (.iinc 2 (-8), 3) := dk_132 2 248 (dk_at dksX0_put_1 3 rfl rfl)
theorem dX0_put_30 : decode cX0_put 30 = .ok (.goto (-27), 3) := dk_167 255 229 (dk_at dksX0_put_1 6 rfl rfl)
theorem dX0_put_33 : decode cX0_put 33 = .ok (.return_, 1) := dk_177 (dk_at dksX0_put_1 9 rfl rfl)
abbrev cX0_end : ByteArray := prog_1_method_11_code
def yX0_end : MethodName := ⟨RX0, "end", "(I)Z"⟩
def dkwX0_end_1 : List UInt8 := [3, 172, 42, 27, 181, 0, 117, 4, 172]
abbrev dktX0_end_1 : List UInt8 := dkwX0_end_1 ++ []
def dkwX0_end_0 : List UInt8 := [27, 155, 0, 11, 27, 42, 180, 0, 117, 164, 0, 17, 42, 3, 182, 0, 120, 155, 0, 7, 4, 167, 0, 4]
abbrev dktX0_end_0 : List UInt8 := dkwX0_end_0 ++ dktX0_end_1
theorem dksX0_end_0 : cX0_end.data.toList.drop 0 = dktX0_end_0 := by decide +kernel
theorem dksX0_end_1 : cX0_end.data.toList.drop 24 = dktX0_end_1 := dk_seg dksX0_end_0 24 rfl rfl
theorem dX0_end_0 : decode cX0_end 0 = .ok (.iload_n 1, 1) := dk_27 (dk_at dksX0_end_0 0 rfl rfl)
theorem dX0_end_1 : decode cX0_end 1 = .ok (.ifCond .lt 11, 3) := dk_155 0 11 (dk_at dksX0_end_0 1 rfl rfl)
theorem dX0_end_4 : decode cX0_end 4 = .ok (.iload_n 1, 1) := dk_27 (dk_at dksX0_end_0 4 rfl rfl)
theorem dX0_end_5 : decode cX0_end 5 = .ok (.aload_n 0, 1) := dk_42 (dk_at dksX0_end_0 5 rfl rfl)
theorem dX0_end_6 : decode cX0_end 6 = .ok (.getfield 117, 3) := dk_180 0 117 (dk_at dksX0_end_0 6 rfl rfl)
theorem dX0_end_9 : decode cX0_end 9 = .ok (.if_icmp .le 17, 3) := dk_164 0 17 (dk_at dksX0_end_0 9 rfl rfl)
theorem dX0_end_12 : decode cX0_end 12 = .ok (.aload_n 0, 1) := dk_42 (dk_at dksX0_end_0 12 rfl rfl)
theorem dX0_end_13 : decode cX0_end 13 = .ok (.iconst 0, 1) := dk_3 (dk_at dksX0_end_0 13 rfl rfl)
theorem dX0_end_14 : decode cX0_end 14 = .ok (.invokevirtual 120, 3) := dk_182 0 120 (dk_at dksX0_end_0 14 rfl rfl)
theorem dX0_end_17 : decode cX0_end 17 = .ok (.ifCond .lt 7, 3) := dk_155 0 7 (dk_at dksX0_end_0 17 rfl rfl)
theorem dX0_end_20 : decode cX0_end 20 = .ok (.iconst 1, 1) := dk_4 (dk_at dksX0_end_0 20 rfl rfl)
theorem dX0_end_21 : decode cX0_end 21 = .ok (.goto 4, 3) := dk_167 0 4 (dk_at dksX0_end_0 21 rfl rfl)
theorem dX0_end_24 : decode cX0_end 24 = .ok (.iconst 0, 1) := dk_3 (dk_at dksX0_end_1 0 rfl rfl)
theorem dX0_end_25 : decode cX0_end 25 = .ok (.ireturn, 1) := dk_172 (dk_at dksX0_end_1 1 rfl rfl)
theorem dX0_end_26 : decode cX0_end 26 = .ok (.aload_n 0, 1) := dk_42 (dk_at dksX0_end_1 2 rfl rfl)
theorem dX0_end_27 : decode cX0_end 27 = .ok (.iload_n 1, 1) := dk_27 (dk_at dksX0_end_1 3 rfl rfl)
theorem dX0_end_28 : decode cX0_end 28 = .ok (.putfield 117, 3) := dk_181 0 117 (dk_at dksX0_end_1 4 rfl rfl)
theorem dX0_end_31 : decode cX0_end 31 = .ok (.iconst 1, 1) := dk_4 (dk_at dksX0_end_1 7 rfl rfl)
theorem dX0_end_32 : decode cX0_end 32 = .ok (.ireturn, 1) := dk_172 (dk_at dksX0_end_1 8 rfl rfl)
abbrev cX0_board : ByteArray := prog_1_method_13_code
def yX0_board : MethodName := ⟨RX0, "board", "()I"⟩
def dkwX0_board_3 : List UInt8 := [180, 0, 31, 180, 0, 156, 172]
abbrev dktX0_board_3 : List UInt8 := dkwX0_board_3 ++ []
def dkwX0_board_2 : List UInt8 := [4, 182, 0, 120, 172, 42, 180, 0, 83, 182, 0, 147, 42, 3, 181, 0, 150, 42, 3, 181, 0, 153, 42]
abbrev dktX0_board_2 : List UInt8 := dkwX0_board_2 ++ dktX0_board_3
def dkwX0_board_1 : List UInt8 := [181, 0, 31, 167, 0, 26, 76, 42, 43, 180, 0, 141, 181, 0, 128, 42, 43, 180, 0, 144, 181, 0, 39, 42]
abbrev dktX0_board_1 : List UInt8 := dkwX0_board_1 ++ dktX0_board_2
def dkwX0_board_0 : List UInt8 := [42, 3, 181, 0, 128, 42, 2, 181, 0, 39, 42, 42, 180, 0, 48, 42, 182, 0, 131, 182, 0, 135]
abbrev dktX0_board_0 : List UInt8 := dkwX0_board_0 ++ dktX0_board_1
theorem dksX0_board_0 : cX0_board.data.toList.drop 0 = dktX0_board_0 := by decide +kernel
theorem dksX0_board_1 : cX0_board.data.toList.drop 22 = dktX0_board_1 := dk_seg dksX0_board_0 22 rfl rfl
theorem dksX0_board_2 : cX0_board.data.toList.drop 46 = dktX0_board_2 := dk_seg dksX0_board_1 24 rfl rfl
theorem dksX0_board_3 : cX0_board.data.toList.drop 69 = dktX0_board_3 := dk_seg dksX0_board_2 23 rfl rfl
theorem dX0_board_0 : decode cX0_board 0 = .ok (.aload_n 0, 1) := dk_42 (dk_at dksX0_board_0 0 rfl rfl)
theorem dX0_board_1 : decode cX0_board 1 = .ok (.iconst 0, 1) := dk_3 (dk_at dksX0_board_0 1 rfl rfl)
theorem dX0_board_2 : decode cX0_board 2 = .ok (.putfield 128, 3) := dk_181 0 128 (dk_at dksX0_board_0 2 rfl rfl)
theorem dX0_board_5 : decode cX0_board 5 = .ok (.aload_n 0, 1) := dk_42 (dk_at dksX0_board_0 5 rfl rfl)
theorem dX0_board_6 : decode cX0_board 6 = .ok (.iconst (-1), 1) := dk_2 (dk_at dksX0_board_0 6 rfl rfl)
theorem dX0_board_7 : decode cX0_board 7 = .ok (.putfield 39, 3) := dk_181 0 39 (dk_at dksX0_board_0 7 rfl rfl)
theorem dX0_board_10 : decode cX0_board 10 = .ok (.aload_n 0, 1) := dk_42 (dk_at dksX0_board_0 10 rfl rfl)
theorem dX0_board_11 : decode cX0_board 11 = .ok (.aload_n 0, 1) := dk_42 (dk_at dksX0_board_0 11 rfl rfl)
theorem dX0_board_12 : decode cX0_board 12 = .ok (.getfield 48, 3) := dk_180 0 48 (dk_at dksX0_board_0 12 rfl rfl)
theorem dX0_board_15 : decode cX0_board 15 = .ok (.aload_n 0, 1) := dk_42 (dk_at dksX0_board_0 15 rfl rfl)
theorem dX0_board_16 : decode cX0_board 16 = .ok (.invokevirtual 131, 3) := dk_182 0 131 (dk_at dksX0_board_0 16 rfl rfl)
theorem dX0_board_19 : decode cX0_board 19 = .ok (.invokevirtual 135, 3) := dk_182 0 135 (dk_at dksX0_board_0 19 rfl rfl)
theorem dX0_board_22 : decode cX0_board 22 = .ok (.putfield 31, 3) := dk_181 0 31 (dk_at dksX0_board_1 0 rfl rfl)
theorem dX0_board_25 : decode cX0_board 25 = .ok (.goto 26, 3) := dk_167 0 26 (dk_at dksX0_board_1 3 rfl rfl)
theorem dX0_board_28 : decode cX0_board 28 = .ok (.astore_n 1, 1) := dk_76 (dk_at dksX0_board_1 6 rfl rfl)
theorem dX0_board_29 : decode cX0_board 29 = .ok (.aload_n 0, 1) := dk_42 (dk_at dksX0_board_1 7 rfl rfl)
theorem dX0_board_30 : decode cX0_board 30 = .ok (.aload_n 1, 1) := dk_43 (dk_at dksX0_board_1 8 rfl rfl)
theorem dX0_board_31 : decode cX0_board 31 = .ok (.getfield 141, 3) := dk_180 0 141 (dk_at dksX0_board_1 9 rfl rfl)
theorem dX0_board_34 : decode cX0_board 34 = .ok (.putfield 128, 3) := dk_181 0 128 (dk_at dksX0_board_1 12 rfl rfl)
theorem dX0_board_37 : decode cX0_board 37 = .ok (.aload_n 0, 1) := dk_42 (dk_at dksX0_board_1 15 rfl rfl)
theorem dX0_board_38 : decode cX0_board 38 = .ok (.aload_n 1, 1) := dk_43 (dk_at dksX0_board_1 16 rfl rfl)
theorem dX0_board_39 : decode cX0_board 39 = .ok (.getfield 144, 3) := dk_180 0 144 (dk_at dksX0_board_1 17 rfl rfl)
theorem dX0_board_42 : decode cX0_board 42 = .ok (.putfield 39, 3) := dk_181 0 39 (dk_at dksX0_board_1 20 rfl rfl)
theorem dX0_board_45 : decode cX0_board 45 = .ok (.aload_n 0, 1) := dk_42 (dk_at dksX0_board_1 23 rfl rfl)
theorem dX0_board_46 : decode cX0_board 46 = .ok (.iconst 1, 1) := dk_4 (dk_at dksX0_board_2 0 rfl rfl)
theorem dX0_board_47 : decode cX0_board 47 = .ok (.invokevirtual 120, 3) := dk_182 0 120 (dk_at dksX0_board_2 1 rfl rfl)
theorem dX0_board_50 : decode cX0_board 50 = .ok (.ireturn, 1) := dk_172 (dk_at dksX0_board_2 4 rfl rfl)
theorem dX0_board_51 : decode cX0_board 51 = .ok (.aload_n 0, 1) := dk_42 (dk_at dksX0_board_2 5 rfl rfl)
theorem dX0_board_52 : decode cX0_board 52 = .ok (.getfield 83, 3) := dk_180 0 83 (dk_at dksX0_board_2 6 rfl rfl)
theorem dX0_board_55 : decode cX0_board 55 = .ok (.invokevirtual 147, 3) := dk_182 0 147 (dk_at dksX0_board_2 9 rfl rfl)
theorem dX0_board_58 : decode cX0_board 58 = .ok (.aload_n 0, 1) := dk_42 (dk_at dksX0_board_2 12 rfl rfl)
theorem dX0_board_59 : decode cX0_board 59 = .ok (.iconst 0, 1) := dk_3 (dk_at dksX0_board_2 13 rfl rfl)
theorem dX0_board_60 : decode cX0_board 60 = .ok (.putfield 150, 3) := dk_181 0 150 (dk_at dksX0_board_2 14 rfl rfl)
theorem dX0_board_63 : decode cX0_board 63 = .ok (.aload_n 0, 1) := dk_42 (dk_at dksX0_board_2 17 rfl rfl)
theorem dX0_board_64 : decode cX0_board 64 = .ok (.iconst 0, 1) := dk_3 (dk_at dksX0_board_2 18 rfl rfl)
theorem dX0_board_65 : decode cX0_board 65 = .ok (.putfield 153, 3) := dk_181 0 153 (dk_at dksX0_board_2 19 rfl rfl)
theorem dX0_board_68 : decode cX0_board 68 = .ok (.aload_n 0, 1) := dk_42 (dk_at dksX0_board_2 22 rfl rfl)
theorem dX0_board_69 : decode cX0_board 69 = .ok (.getfield 31, 3) := dk_180 0 31 (dk_at dksX0_board_3 0 rfl rfl)
theorem dX0_board_72 : decode cX0_board 72 = .ok (.getfield 156, 3) := dk_180 0 156 (dk_at dksX0_board_3 3 rfl rfl)
theorem dX0_board_75 : decode cX0_board 75 = .ok (.ireturn, 1) := dk_172 (dk_at dksX0_board_3 6 rfl rfl)
abbrev cX0_taken : ByteArray := prog_1_method_12_code
def yX0_taken : MethodName := ⟨RX0, "taken", "()I"⟩
def dkwX0_taken_0 : List UInt8 := [42, 180, 0, 117, 60, 42, 3, 181, 0, 117, 27, 172]
abbrev dktX0_taken_0 : List UInt8 := dkwX0_taken_0 ++ []
theorem dksX0_taken_0 : cX0_taken.data.toList.drop 0 = dktX0_taken_0 := by decide +kernel
theorem dX0_taken_0 : decode cX0_taken 0 = .ok (.aload_n 0, 1) := dk_42 (dk_at dksX0_taken_0 0 rfl rfl)
theorem dX0_taken_1 : decode cX0_taken 1 = .ok (.getfield 117, 3) := dk_180 0 117 (dk_at dksX0_taken_0 1 rfl rfl)
theorem dX0_taken_4 : decode cX0_taken 4 = .ok (.istore_n 1, 1) := dk_60 (dk_at dksX0_taken_0 4 rfl rfl)
theorem dX0_taken_5 : decode cX0_taken 5 = .ok (.aload_n 0, 1) := dk_42 (dk_at dksX0_taken_0 5 rfl rfl)
theorem dX0_taken_6 : decode cX0_taken 6 = .ok (.iconst 0, 1) := dk_3 (dk_at dksX0_taken_0 6 rfl rfl)
theorem dX0_taken_7 : decode cX0_taken 7 = .ok (.putfield 117, 3) := dk_181 0 117 (dk_at dksX0_taken_0 7 rfl rfl)
theorem dX0_taken_10 : decode cX0_taken 10 = .ok (.iload_n 1, 1) := dk_27 (dk_at dksX0_taken_0 10 rfl rfl)
theorem dX0_taken_11 : decode cX0_taken 11 = .ok (.ireturn, 1) := dk_172 (dk_at dksX0_taken_0 11 rfl rfl)
abbrev cX0_isLetter : ByteArray := prog_1_method_4_code
def yX0_isLetter : MethodName := ⟨RX0, "isLetter", "(I)Z"⟩
def dkwX0_isLetter_0 : List UInt8 := [26, 16, 97, 161, 0, 13, 26, 16, 122, 163, 0, 7, 4, 167, 0, 4, 3, 172]
abbrev dktX0_isLetter_0 : List UInt8 := dkwX0_isLetter_0 ++ []
theorem dksX0_isLetter_0 : cX0_isLetter.data.toList.drop 0 = dktX0_isLetter_0 := by decide +kernel
theorem dX0_isLetter_0 : decode cX0_isLetter 0 = .ok (.iload_n 0, 1) := dk_26 (dk_at dksX0_isLetter_0 0 rfl rfl)
theorem dX0_isLetter_1 : decode cX0_isLetter 1 = .ok (.bipush 97, 2) := dk_16 97 (dk_at dksX0_isLetter_0 1 rfl rfl)
theorem dX0_isLetter_3 : decode cX0_isLetter 3 = .ok (.if_icmp .lt 13, 3) := dk_161 0 13 (dk_at dksX0_isLetter_0 3 rfl rfl)
theorem dX0_isLetter_6 : decode cX0_isLetter 6 = .ok (.iload_n 0, 1) := dk_26 (dk_at dksX0_isLetter_0 6 rfl rfl)
theorem dX0_isLetter_7 : decode cX0_isLetter 7 = .ok (.bipush 122, 2) := dk_16 122 (dk_at dksX0_isLetter_0 7 rfl rfl)
theorem dX0_isLetter_9 : decode cX0_isLetter 9 = .ok (.if_icmp .gt 7, 3) := dk_163 0 7 (dk_at dksX0_isLetter_0 9 rfl rfl)
theorem dX0_isLetter_12 : decode cX0_isLetter 12 = .ok (.iconst 1, 1) := dk_4 (dk_at dksX0_isLetter_0 12 rfl rfl)
theorem dX0_isLetter_13 : decode cX0_isLetter 13 = .ok (.goto 4, 3) := dk_167 0 4 (dk_at dksX0_isLetter_0 13 rfl rfl)
theorem dX0_isLetter_16 : decode cX0_isLetter 16 = .ok (.iconst 0, 1) := dk_3 (dk_at dksX0_isLetter_0 16 rfl rfl)
theorem dX0_isLetter_17 : decode cX0_isLetter 17 = .ok (.ireturn, 1) := dk_172 (dk_at dksX0_isLetter_0 17 rfl rfl)
abbrev cX0_isDigit : ByteArray := prog_1_method_5_code
def yX0_isDigit : MethodName := ⟨RX0, "isDigit", "(I)Z"⟩
def dkwX0_isDigit_0 : List UInt8 := [26, 16, 48, 161, 0, 13, 26, 16, 57, 163, 0, 7, 4, 167, 0, 4, 3, 172]
abbrev dktX0_isDigit_0 : List UInt8 := dkwX0_isDigit_0 ++ []
theorem dksX0_isDigit_0 : cX0_isDigit.data.toList.drop 0 = dktX0_isDigit_0 := by decide +kernel
theorem dX0_isDigit_0 : decode cX0_isDigit 0 = .ok (.iload_n 0, 1) := dk_26 (dk_at dksX0_isDigit_0 0 rfl rfl)
theorem dX0_isDigit_1 : decode cX0_isDigit 1 = .ok (.bipush 48, 2) := dk_16 48 (dk_at dksX0_isDigit_0 1 rfl rfl)
theorem dX0_isDigit_3 : decode cX0_isDigit 3 = .ok (.if_icmp .lt 13, 3) := dk_161 0 13 (dk_at dksX0_isDigit_0 3 rfl rfl)
theorem dX0_isDigit_6 : decode cX0_isDigit 6 = .ok (.iload_n 0, 1) := dk_26 (dk_at dksX0_isDigit_0 6 rfl rfl)
theorem dX0_isDigit_7 : decode cX0_isDigit 7 = .ok (.bipush 57, 2) := dk_16 57 (dk_at dksX0_isDigit_0 7 rfl rfl)
theorem dX0_isDigit_9 : decode cX0_isDigit 9 = .ok (.if_icmp .gt 7, 3) := dk_163 0 7 (dk_at dksX0_isDigit_0 9 rfl rfl)
theorem dX0_isDigit_12 : decode cX0_isDigit 12 = .ok (.iconst 1, 1) := dk_4 (dk_at dksX0_isDigit_0 12 rfl rfl)
theorem dX0_isDigit_13 : decode cX0_isDigit 13 = .ok (.goto 4, 3) := dk_167 0 4 (dk_at dksX0_isDigit_0 13 rfl rfl)
theorem dX0_isDigit_16 : decode cX0_isDigit 16 = .ok (.iconst 0, 1) := dk_3 (dk_at dksX0_isDigit_0 16 rfl rfl)
theorem dX0_isDigit_17 : decode cX0_isDigit 17 = .ok (.ireturn, 1) := dk_172 (dk_at dksX0_isDigit_0 17 rfl rfl)
abbrev cX0_is : ByteArray := prog_1_method_1_code
def yX0_is : MethodName := ⟨RX0, "is", "(III)Z"⟩
def dkwX0_is_0 : List UInt8 := [26, 27, 161, 0, 12, 26, 28, 163, 0, 7, 4, 167, 0, 4, 3, 172]
abbrev dktX0_is_0 : List UInt8 := dkwX0_is_0 ++ []
theorem dksX0_is_0 : cX0_is.data.toList.drop 0 = dktX0_is_0 := by decide +kernel
theorem dX0_is_0 : decode cX0_is 0 = .ok (.iload_n 0, 1) := dk_26 (dk_at dksX0_is_0 0 rfl rfl)
theorem dX0_is_1 : decode cX0_is 1 = .ok (.iload_n 1, 1) := dk_27 (dk_at dksX0_is_0 1 rfl rfl)
theorem dX0_is_2 : decode cX0_is 2 = .ok (.if_icmp .lt 12, 3) := dk_161 0 12 (dk_at dksX0_is_0 2 rfl rfl)
theorem dX0_is_5 : decode cX0_is 5 = .ok (.iload_n 0, 1) := dk_26 (dk_at dksX0_is_0 5 rfl rfl)
theorem dX0_is_6 : decode cX0_is 6 = .ok (.iload_n 2, 1) := dk_28 (dk_at dksX0_is_0 6 rfl rfl)
theorem dX0_is_7 : decode cX0_is 7 = .ok (.if_icmp .gt 7, 3) := dk_163 0 7 (dk_at dksX0_is_0 7 rfl rfl)
theorem dX0_is_10 : decode cX0_is 10 = .ok (.iconst 1, 1) := dk_4 (dk_at dksX0_is_0 10 rfl rfl)
theorem dX0_is_11 : decode cX0_is 11 = .ok (.goto 4, 3) := dk_167 0 4 (dk_at dksX0_is_0 11 rfl rfl)
theorem dX0_is_14 : decode cX0_is 14 = .ok (.iconst 0, 1) := dk_3 (dk_at dksX0_is_0 14 rfl rfl)
theorem dX0_is_15 : decode cX0_is 15 = .ok (.ireturn, 1) := dk_172 (dk_at dksX0_is_0 15 rfl rfl)
abbrev cX0_find : ByteArray := prog_1_method_6_code
def yX0_find : MethodName := ⟨RX0, "find", "(Ljava/lang/String;[Ljava/lang/String;)I"⟩
def dkwX0_find_1 : List UInt8 := [167, 255, 235, 2, 172]
abbrev dktX0_find_1 : List UInt8 := dkwX0_find_1 ++ []
def dkwX0_find_0 : List UInt8 := [3, 61, 28, 43, 190, 162, 0, 21, 43, 28, 50, 42, 182, 0, 16, 153, 0, 5, 28, 172, 132, 2, 1]
abbrev dktX0_find_0 : List UInt8 := dkwX0_find_0 ++ dktX0_find_1
theorem dksX0_find_0 : cX0_find.data.toList.drop 0 = dktX0_find_0 := by decide +kernel
theorem dksX0_find_1 : cX0_find.data.toList.drop 23 = dktX0_find_1 := dk_seg dksX0_find_0 23 rfl rfl
theorem dX0_find_0 : decode cX0_find 0 = .ok (.iconst 0, 1) := dk_3 (dk_at dksX0_find_0 0 rfl rfl)
theorem dX0_find_1 : decode cX0_find 1 = .ok (.istore_n 2, 1) := dk_61 (dk_at dksX0_find_0 1 rfl rfl)
theorem dX0_find_2 : decode cX0_find 2 = .ok (.iload_n 2, 1) := dk_28 (dk_at dksX0_find_0 2 rfl rfl)
theorem dX0_find_3 : decode cX0_find 3 = .ok (.aload_n 1, 1) := dk_43 (dk_at dksX0_find_0 3 rfl rfl)
theorem dX0_find_4 : decode cX0_find 4 = .ok (.arraylength, 1) := dk_190 (dk_at dksX0_find_0 4 rfl rfl)
theorem dX0_find_5 : decode cX0_find 5 = .ok (.if_icmp .ge 21, 3) := dk_162 0 21 (dk_at dksX0_find_0 5 rfl rfl)
theorem dX0_find_8 : decode cX0_find 8 = .ok (.aload_n 1, 1) := dk_43 (dk_at dksX0_find_0 8 rfl rfl)
theorem dX0_find_9 : decode cX0_find 9 = .ok (.iload_n 2, 1) := dk_28 (dk_at dksX0_find_0 9 rfl rfl)
theorem dX0_find_10 : decode cX0_find 10 = .ok (.aaload, 1) := dk_50 (dk_at dksX0_find_0 10 rfl rfl)
theorem dX0_find_11 : decode cX0_find 11 = .ok (.aload_n 0, 1) := dk_42 (dk_at dksX0_find_0 11 rfl rfl)
theorem dX0_find_12 : decode cX0_find 12 = .ok (.invokevirtual 16, 3) := dk_182 0 16 (dk_at dksX0_find_0 12 rfl rfl)
theorem dX0_find_15 : decode cX0_find 15 = .ok (.ifCond .eq 5, 3) := dk_153 0 5 (dk_at dksX0_find_0 15 rfl rfl)
theorem dX0_find_18 : decode cX0_find 18 = .ok (.iload_n 2, 1) := dk_28 (dk_at dksX0_find_0 18 rfl rfl)
theorem dX0_find_19 : decode cX0_find 19 = .ok (.ireturn, 1) := dk_172 (dk_at dksX0_find_0 19 rfl rfl)
theorem dX0_find_20 : decode cX0_find 20 = .ok (.iinc 2 1, 3) := dk_132 2 1 (dk_at dksX0_find_0 20 rfl rfl)
theorem dX0_find_23 : decode cX0_find 23 = .ok (.goto (-21), 3) := dk_167 255 235 (dk_at dksX0_find_1 0 rfl rfl)
theorem dX0_find_26 : decode cX0_find 26 = .ok (.iconst (-1), 1) := dk_2 (dk_at dksX0_find_1 3 rfl rfl)
theorem dX0_find_27 : decode cX0_find 27 = .ok (.ireturn, 1) := dk_172 (dk_at dksX0_find_1 4 rfl rfl)
abbrev cX0_has : ByteArray := prog_1_method_2_code
def yX0_has : MethodName := ⟨RX0, "has", "(II)Z"⟩
def dkwX0_has_0 : List UInt8 := [26, 27, 122, 4, 126, 4, 160, 0, 7, 4, 167, 0, 4, 3, 172]
abbrev dktX0_has_0 : List UInt8 := dkwX0_has_0 ++ []
theorem dksX0_has_0 : cX0_has.data.toList.drop 0 = dktX0_has_0 := by decide +kernel
theorem dX0_has_0 : decode cX0_has 0 = .ok (.iload_n 0, 1) := dk_26 (dk_at dksX0_has_0 0 rfl rfl)
theorem dX0_has_1 : decode cX0_has 1 = .ok (.iload_n 1, 1) := dk_27 (dk_at dksX0_has_0 1 rfl rfl)
theorem dX0_has_2 : decode cX0_has 2 = .ok (.ishr, 1) := dk_122 (dk_at dksX0_has_0 2 rfl rfl)
theorem dX0_has_3 : decode cX0_has 3 = .ok (.iconst 1, 1) := dk_4 (dk_at dksX0_has_0 3 rfl rfl)
theorem dX0_has_4 : decode cX0_has 4 = .ok (.iand, 1) := dk_126 (dk_at dksX0_has_0 4 rfl rfl)
theorem dX0_has_5 : decode cX0_has 5 = .ok (.iconst 1, 1) := dk_4 (dk_at dksX0_has_0 5 rfl rfl)
theorem dX0_has_6 : decode cX0_has 6 = .ok (.if_icmp .ne 7, 3) := dk_160 0 7 (dk_at dksX0_has_0 6 rfl rfl)
theorem dX0_has_9 : decode cX0_has 9 = .ok (.iconst 1, 1) := dk_4 (dk_at dksX0_has_0 9 rfl rfl)
theorem dX0_has_10 : decode cX0_has 10 = .ok (.goto 4, 3) := dk_167 0 4 (dk_at dksX0_has_0 10 rfl rfl)
theorem dX0_has_13 : decode cX0_has 13 = .ok (.iconst 0, 1) := dk_3 (dk_at dksX0_has_0 13 rfl rfl)
theorem dX0_has_14 : decode cX0_has 14 = .ok (.ireturn, 1) := dk_172 (dk_at dksX0_has_0 14 rfl rfl)
abbrev cX0_fields : ByteArray := prog_1_method_17_code
def yX0_fields : MethodName := ⟨RX0, "fields", "()I"⟩
def dkwX0_fields_0 : List UInt8 := [42, 180, 0, 31, 180, 0, 171, 185, 0, 166, 1, 0, 172]
abbrev dktX0_fields_0 : List UInt8 := dkwX0_fields_0 ++ []
theorem dksX0_fields_0 : cX0_fields.data.toList.drop 0 = dktX0_fields_0 := by decide +kernel
theorem dX0_fields_0 : decode cX0_fields 0 = .ok (.aload_n 0, 1) := dk_42 (dk_at dksX0_fields_0 0 rfl rfl)
theorem dX0_fields_1 : decode cX0_fields 1 = .ok (.getfield 31, 3) := dk_180 0 31 (dk_at dksX0_fields_0 1 rfl rfl)
theorem dX0_fields_4 : decode cX0_fields 4 = .ok (.getfield 171, 3) := dk_180 0 171 (dk_at dksX0_fields_0 4 rfl rfl)
theorem dX0_fields_7 : decode cX0_fields 7 = .ok (.invokeinterface 166 1, 5) := by decide +kernel
theorem dX0_fields_12 : decode cX0_fields 12 = .ok (.ireturn, 1) := dk_172 (dk_at dksX0_fields_0 12 rfl rfl)
abbrev cX0_fault : ByteArray := prog_1_method_14_code
def yX0_fault : MethodName := ⟨RX0, "fault", "(I)I"⟩
def dkwX0_fault_1 : List UInt8 := [172]
abbrev dktX0_fault_1 : List UInt8 := dkwX0_fault_1 ++ []
def dkwX0_fault_0 : List UInt8 := [27, 154, 0, 10, 42, 180, 0, 128, 167, 0, 16, 27, 4, 160, 0, 10, 42, 180, 0, 39, 167, 0, 4, 2]
abbrev dktX0_fault_0 : List UInt8 := dkwX0_fault_0 ++ dktX0_fault_1
theorem dksX0_fault_0 : cX0_fault.data.toList.drop 0 = dktX0_fault_0 := by decide +kernel
theorem dksX0_fault_1 : cX0_fault.data.toList.drop 24 = dktX0_fault_1 := dk_seg dksX0_fault_0 24 rfl rfl
theorem dX0_fault_0 : decode cX0_fault 0 = .ok (.iload_n 1, 1) := dk_27 (dk_at dksX0_fault_0 0 rfl rfl)
theorem dX0_fault_1 : decode cX0_fault 1 = .ok (.ifCond .ne 10, 3) := dk_154 0 10 (dk_at dksX0_fault_0 1 rfl rfl)
theorem dX0_fault_4 : decode cX0_fault 4 = .ok (.aload_n 0, 1) := dk_42 (dk_at dksX0_fault_0 4 rfl rfl)
theorem dX0_fault_5 : decode cX0_fault 5 = .ok (.getfield 128, 3) := dk_180 0 128 (dk_at dksX0_fault_0 5 rfl rfl)
theorem dX0_fault_8 : decode cX0_fault 8 = .ok (.goto 16, 3) := dk_167 0 16 (dk_at dksX0_fault_0 8 rfl rfl)
theorem dX0_fault_11 : decode cX0_fault 11 = .ok (.iload_n 1, 1) := dk_27 (dk_at dksX0_fault_0 11 rfl rfl)
theorem dX0_fault_12 : decode cX0_fault 12 = .ok (.iconst 1, 1) := dk_4 (dk_at dksX0_fault_0 12 rfl rfl)
theorem dX0_fault_13 : decode cX0_fault 13 = .ok (.if_icmp .ne 10, 3) := dk_160 0 10 (dk_at dksX0_fault_0 13 rfl rfl)
theorem dX0_fault_16 : decode cX0_fault 16 = .ok (.aload_n 0, 1) := dk_42 (dk_at dksX0_fault_0 16 rfl rfl)
theorem dX0_fault_17 : decode cX0_fault 17 = .ok (.getfield 39, 3) := dk_180 0 39 (dk_at dksX0_fault_0 17 rfl rfl)
theorem dX0_fault_20 : decode cX0_fault 20 = .ok (.goto 4, 3) := dk_167 0 4 (dk_at dksX0_fault_0 20 rfl rfl)
theorem dX0_fault_23 : decode cX0_fault 23 = .ok (.iconst (-1), 1) := dk_2 (dk_at dksX0_fault_0 23 rfl rfl)
theorem dX0_fault_24 : decode cX0_fault 24 = .ok (.ireturn, 1) := dk_172 (dk_at dksX0_fault_1 0 rfl rfl)
abbrev cX0_has_2 : ByteArray := prog_1_method_24_code
def yX0_has_2 : MethodName := ⟨RX0, "has", "(I)I"⟩
def dkwX0_has_2_7 : List UInt8 := [172, 42, 180, 0, 153, 172, 42, 180, 0, 150, 172, 2, 172]
abbrev dktX0_has_2_7 : List UInt8 := dkwX0_has_2_7 ++ []
def dkwX0_has_2_6 : List UInt8 := [180, 0, 83, 4, 182, 0, 218, 100, 172, 42, 180, 0, 83, 182, 0, 221, 172, 42, 180, 0, 83, 180, 0, 224]
abbrev dktX0_has_2_6 : List UInt8 := dkwX0_has_2_6 ++ dktX0_has_2_7
def dkwX0_has_2_5 : List UInt8 := [153, 0, 7, 4, 167, 0, 4, 3, 172, 42, 182, 0, 174, 42, 180, 0, 83, 3, 182, 0, 218, 100, 42]
abbrev dktX0_has_2_5 : List UInt8 := dkwX0_has_2_5 ++ dktX0_has_2_6
def dkwX0_has_2_4 : List UInt8 := [42, 180, 0, 83, 180, 0, 208, 172, 42, 182, 0, 211, 153, 0, 17, 42, 180, 0, 83, 182, 0, 215]
abbrev dktX0_has_2_4 : List UInt8 := dkwX0_has_2_4 ++ dktX0_has_2_5
def dkwX0_has_2_3 : List UInt8 := [185, 0, 166, 1, 0, 172, 42, 182, 0, 174, 172, 42, 182, 0, 176, 172, 42, 180, 0, 83, 180, 0, 205, 172]
abbrev dktX0_has_2_3 : List UInt8 := dkwX0_has_2_3 ++ dktX0_has_2_4
def dkwX0_has_2_2 : List UInt8 := [42, 180, 0, 31, 180, 0, 159, 172, 42, 180, 0, 31, 180, 0, 182, 172, 42, 180, 0, 31, 180, 0, 189]
abbrev dktX0_has_2_2 : List UInt8 := dkwX0_has_2_2 ++ dktX0_has_2_3
def dkwX0_has_2_1 : List UInt8 := [170, 0, 0, 0, 0, 0, 194, 0, 0, 0, 0, 0, 0, 0, 12, 0, 0, 0, 67, 0, 0, 0, 75, 0, 0, 0, 83, 0, 0, 0, 96, 0, 0, 0, 101, 0, 0, 0, 106, 0, 0, 0, 114, 0, 0, 0, 122, 0, 0, 0, 145, 0, 0, 0, 168, 0, 0, 0, 176, 0, 0, 0, 184, 0, 0, 0, 189]
abbrev dktX0_has_2_1 : List UInt8 := dkwX0_has_2_1 ++ dktX0_has_2_2
def dkwX0_has_2_0 : List UInt8 := [27]
abbrev dktX0_has_2_0 : List UInt8 := dkwX0_has_2_0 ++ dktX0_has_2_1
theorem dksX0_has_2_0 : cX0_has_2.data.toList.drop 0 = dktX0_has_2_0 := by decide +kernel
theorem dksX0_has_2_1 : cX0_has_2.data.toList.drop 1 = dktX0_has_2_1 := dk_seg dksX0_has_2_0 1 rfl rfl
theorem dksX0_has_2_2 : cX0_has_2.data.toList.drop 68 = dktX0_has_2_2 := dk_seg dksX0_has_2_1 67 rfl rfl
theorem dksX0_has_2_3 : cX0_has_2.data.toList.drop 91 = dktX0_has_2_3 := dk_seg dksX0_has_2_2 23 rfl rfl
theorem dksX0_has_2_4 : cX0_has_2.data.toList.drop 115 = dktX0_has_2_4 := dk_seg dksX0_has_2_3 24 rfl rfl
theorem dksX0_has_2_5 : cX0_has_2.data.toList.drop 137 = dktX0_has_2_5 := dk_seg dksX0_has_2_4 22 rfl rfl
theorem dksX0_has_2_6 : cX0_has_2.data.toList.drop 160 = dktX0_has_2_6 := dk_seg dksX0_has_2_5 23 rfl rfl
theorem dksX0_has_2_7 : cX0_has_2.data.toList.drop 184 = dktX0_has_2_7 := dk_seg dksX0_has_2_6 24 rfl rfl
theorem dX0_has_2_0 : decode cX0_has_2 0 = .ok (.iload_n 1, 1) := dk_27 (dk_at dksX0_has_2_0 0 rfl rfl)
theorem dX0_has_2_1 : decode cX0_has_2 1 = .ok (.tableswitch 194 0 12 #[67, 75, 83, 96, 101, 106, 114, 122, 145, 168, 176, 184, 189], 67) := by decide +kernel
theorem dX0_has_2_68 : decode cX0_has_2 68 = .ok (.aload_n 0, 1) := dk_42 (dk_at dksX0_has_2_2 0 rfl rfl)
theorem dX0_has_2_69 : decode cX0_has_2 69 = .ok (.getfield 31, 3) := dk_180 0 31 (dk_at dksX0_has_2_2 1 rfl rfl)
theorem dX0_has_2_72 : decode cX0_has_2 72 = .ok (.getfield 159, 3) := dk_180 0 159 (dk_at dksX0_has_2_2 4 rfl rfl)
theorem dX0_has_2_75 : decode cX0_has_2 75 = .ok (.ireturn, 1) := dk_172 (dk_at dksX0_has_2_2 7 rfl rfl)
theorem dX0_has_2_76 : decode cX0_has_2 76 = .ok (.aload_n 0, 1) := dk_42 (dk_at dksX0_has_2_2 8 rfl rfl)
theorem dX0_has_2_77 : decode cX0_has_2 77 = .ok (.getfield 31, 3) := dk_180 0 31 (dk_at dksX0_has_2_2 9 rfl rfl)
theorem dX0_has_2_80 : decode cX0_has_2 80 = .ok (.getfield 182, 3) := dk_180 0 182 (dk_at dksX0_has_2_2 12 rfl rfl)
theorem dX0_has_2_83 : decode cX0_has_2 83 = .ok (.ireturn, 1) := dk_172 (dk_at dksX0_has_2_2 15 rfl rfl)
theorem dX0_has_2_84 : decode cX0_has_2 84 = .ok (.aload_n 0, 1) := dk_42 (dk_at dksX0_has_2_2 16 rfl rfl)
theorem dX0_has_2_85 : decode cX0_has_2 85 = .ok (.getfield 31, 3) := dk_180 0 31 (dk_at dksX0_has_2_2 17 rfl rfl)
theorem dX0_has_2_88 : decode cX0_has_2 88 = .ok (.getfield 189, 3) := dk_180 0 189 (dk_at dksX0_has_2_2 20 rfl rfl)
theorem dX0_has_2_91 : decode cX0_has_2 91 = .ok (.invokeinterface 166 1, 5) := by decide +kernel
theorem dX0_has_2_96 : decode cX0_has_2 96 = .ok (.ireturn, 1) := dk_172 (dk_at dksX0_has_2_3 5 rfl rfl)
theorem dX0_has_2_97 : decode cX0_has_2 97 = .ok (.aload_n 0, 1) := dk_42 (dk_at dksX0_has_2_3 6 rfl rfl)
theorem dX0_has_2_98 : decode cX0_has_2 98 = .ok (.invokevirtual 174, 3) := dk_182 0 174 (dk_at dksX0_has_2_3 7 rfl rfl)
theorem dX0_has_2_101 : decode cX0_has_2 101 = .ok (.ireturn, 1) := dk_172 (dk_at dksX0_has_2_3 10 rfl rfl)
theorem dX0_has_2_102 : decode cX0_has_2 102 = .ok (.aload_n 0, 1) := dk_42 (dk_at dksX0_has_2_3 11 rfl rfl)
theorem dX0_has_2_103 : decode cX0_has_2 103 = .ok (.invokevirtual 176, 3) := dk_182 0 176 (dk_at dksX0_has_2_3 12 rfl rfl)
theorem dX0_has_2_106 : decode cX0_has_2 106 = .ok (.ireturn, 1) := dk_172 (dk_at dksX0_has_2_3 15 rfl rfl)
theorem dX0_has_2_107 : decode cX0_has_2 107 = .ok (.aload_n 0, 1) := dk_42 (dk_at dksX0_has_2_3 16 rfl rfl)
theorem dX0_has_2_108 : decode cX0_has_2 108 = .ok (.getfield 83, 3) := dk_180 0 83 (dk_at dksX0_has_2_3 17 rfl rfl)
theorem dX0_has_2_111 : decode cX0_has_2 111 = .ok (.getfield 205, 3) := dk_180 0 205 (dk_at dksX0_has_2_3 20 rfl rfl)
theorem dX0_has_2_114 : decode cX0_has_2 114 = .ok (.ireturn, 1) := dk_172 (dk_at dksX0_has_2_3 23 rfl rfl)
theorem dX0_has_2_115 : decode cX0_has_2 115 = .ok (.aload_n 0, 1) := dk_42 (dk_at dksX0_has_2_4 0 rfl rfl)
theorem dX0_has_2_116 : decode cX0_has_2 116 = .ok (.getfield 83, 3) := dk_180 0 83 (dk_at dksX0_has_2_4 1 rfl rfl)
theorem dX0_has_2_119 : decode cX0_has_2 119 = .ok (.getfield 208, 3) := dk_180 0 208 (dk_at dksX0_has_2_4 4 rfl rfl)
theorem dX0_has_2_122 : decode cX0_has_2 122 = .ok (.ireturn, 1) := dk_172 (dk_at dksX0_has_2_4 7 rfl rfl)
theorem dX0_has_2_123 : decode cX0_has_2 123 = .ok (.aload_n 0, 1) := dk_42 (dk_at dksX0_has_2_4 8 rfl rfl)
theorem dX0_has_2_124 : decode cX0_has_2 124 = .ok (.invokevirtual 211, 3) := dk_182 0 211 (dk_at dksX0_has_2_4 9 rfl rfl)
theorem dX0_has_2_127 : decode cX0_has_2 127 = .ok (.ifCond .eq 17, 3) := dk_153 0 17 (dk_at dksX0_has_2_4 12 rfl rfl)
theorem dX0_has_2_130 : decode cX0_has_2 130 = .ok (.aload_n 0, 1) := dk_42 (dk_at dksX0_has_2_4 15 rfl rfl)
theorem dX0_has_2_131 : decode cX0_has_2 131 = .ok (.getfield 83, 3) := dk_180 0 83 (dk_at dksX0_has_2_4 16 rfl rfl)
theorem dX0_has_2_134 : decode cX0_has_2 134 = .ok (.invokevirtual 215, 3) := dk_182 0 215 (dk_at dksX0_has_2_4 19 rfl rfl)
theorem dX0_has_2_137 : decode cX0_has_2 137 = .ok (.ifCond .eq 7, 3) := dk_153 0 7 (dk_at dksX0_has_2_5 0 rfl rfl)
theorem dX0_has_2_140 : decode cX0_has_2 140 = .ok (.iconst 1, 1) := dk_4 (dk_at dksX0_has_2_5 3 rfl rfl)
theorem dX0_has_2_141 : decode cX0_has_2 141 = .ok (.goto 4, 3) := dk_167 0 4 (dk_at dksX0_has_2_5 4 rfl rfl)
theorem dX0_has_2_144 : decode cX0_has_2 144 = .ok (.iconst 0, 1) := dk_3 (dk_at dksX0_has_2_5 7 rfl rfl)
theorem dX0_has_2_145 : decode cX0_has_2 145 = .ok (.ireturn, 1) := dk_172 (dk_at dksX0_has_2_5 8 rfl rfl)
theorem dX0_has_2_146 : decode cX0_has_2 146 = .ok (.aload_n 0, 1) := dk_42 (dk_at dksX0_has_2_5 9 rfl rfl)
theorem dX0_has_2_147 : decode cX0_has_2 147 = .ok (.invokevirtual 174, 3) := dk_182 0 174 (dk_at dksX0_has_2_5 10 rfl rfl)
theorem dX0_has_2_150 : decode cX0_has_2 150 = .ok (.aload_n 0, 1) := dk_42 (dk_at dksX0_has_2_5 13 rfl rfl)
theorem dX0_has_2_151 : decode cX0_has_2 151 = .ok (.getfield 83, 3) := dk_180 0 83 (dk_at dksX0_has_2_5 14 rfl rfl)
theorem dX0_has_2_154 : decode cX0_has_2 154 = .ok (.iconst 0, 1) := dk_3 (dk_at dksX0_has_2_5 17 rfl rfl)
theorem dX0_has_2_155 : decode cX0_has_2 155 = .ok (.invokevirtual 218, 3) := dk_182 0 218 (dk_at dksX0_has_2_5 18 rfl rfl)
theorem dX0_has_2_158 : decode cX0_has_2 158 = .ok (.isub, 1) := dk_100 (dk_at dksX0_has_2_5 21 rfl rfl)
theorem dX0_has_2_159 : decode cX0_has_2 159 = .ok (.aload_n 0, 1) := dk_42 (dk_at dksX0_has_2_5 22 rfl rfl)
theorem dX0_has_2_160 : decode cX0_has_2 160 = .ok (.getfield 83, 3) := dk_180 0 83 (dk_at dksX0_has_2_6 0 rfl rfl)
theorem dX0_has_2_163 : decode cX0_has_2 163 = .ok (.iconst 1, 1) := dk_4 (dk_at dksX0_has_2_6 3 rfl rfl)
theorem dX0_has_2_164 : decode cX0_has_2 164 = .ok (.invokevirtual 218, 3) := dk_182 0 218 (dk_at dksX0_has_2_6 4 rfl rfl)
theorem dX0_has_2_167 : decode cX0_has_2 167 = .ok (.isub, 1) := dk_100 (dk_at dksX0_has_2_6 7 rfl rfl)
theorem dX0_has_2_168 : decode cX0_has_2 168 = .ok (.ireturn, 1) := dk_172 (dk_at dksX0_has_2_6 8 rfl rfl)
theorem dX0_has_2_169 : decode cX0_has_2 169 = .ok (.aload_n 0, 1) := dk_42 (dk_at dksX0_has_2_6 9 rfl rfl)
theorem dX0_has_2_170 : decode cX0_has_2 170 = .ok (.getfield 83, 3) := dk_180 0 83 (dk_at dksX0_has_2_6 10 rfl rfl)
theorem dX0_has_2_173 : decode cX0_has_2 173 = .ok (.invokevirtual 221, 3) := dk_182 0 221 (dk_at dksX0_has_2_6 13 rfl rfl)
theorem dX0_has_2_176 : decode cX0_has_2 176 = .ok (.ireturn, 1) := dk_172 (dk_at dksX0_has_2_6 16 rfl rfl)
theorem dX0_has_2_177 : decode cX0_has_2 177 = .ok (.aload_n 0, 1) := dk_42 (dk_at dksX0_has_2_6 17 rfl rfl)
theorem dX0_has_2_178 : decode cX0_has_2 178 = .ok (.getfield 83, 3) := dk_180 0 83 (dk_at dksX0_has_2_6 18 rfl rfl)
theorem dX0_has_2_181 : decode cX0_has_2 181 = .ok (.getfield 224, 3) := dk_180 0 224 (dk_at dksX0_has_2_6 21 rfl rfl)
theorem dX0_has_2_184 : decode cX0_has_2 184 = .ok (.ireturn, 1) := dk_172 (dk_at dksX0_has_2_7 0 rfl rfl)
theorem dX0_has_2_185 : decode cX0_has_2 185 = .ok (.aload_n 0, 1) := dk_42 (dk_at dksX0_has_2_7 1 rfl rfl)
theorem dX0_has_2_186 : decode cX0_has_2 186 = .ok (.getfield 153, 3) := dk_180 0 153 (dk_at dksX0_has_2_7 2 rfl rfl)
theorem dX0_has_2_189 : decode cX0_has_2 189 = .ok (.ireturn, 1) := dk_172 (dk_at dksX0_has_2_7 5 rfl rfl)
theorem dX0_has_2_190 : decode cX0_has_2 190 = .ok (.aload_n 0, 1) := dk_42 (dk_at dksX0_has_2_7 6 rfl rfl)
theorem dX0_has_2_191 : decode cX0_has_2 191 = .ok (.getfield 150, 3) := dk_180 0 150 (dk_at dksX0_has_2_7 7 rfl rfl)
theorem dX0_has_2_194 : decode cX0_has_2 194 = .ok (.ireturn, 1) := dk_172 (dk_at dksX0_has_2_7 10 rfl rfl)
theorem dX0_has_2_195 : decode cX0_has_2 195 = .ok (.iconst (-1), 1) := dk_2 (dk_at dksX0_has_2_7 11 rfl rfl)
theorem dX0_has_2_196 : decode cX0_has_2 196 = .ok (.ireturn, 1) := dk_172 (dk_at dksX0_has_2_7 12 rfl rfl)
abbrev cX0_isBoard : ByteArray := prog_1_method_15_code
def yX0_isBoard : MethodName := ⟨RX0, "isBoard", "()Z"⟩
def dkwX0_isBoard_0 : List UInt8 := [42, 180, 0, 31, 180, 0, 159, 158, 0, 7, 4, 167, 0, 4, 3, 172]
abbrev dktX0_isBoard_0 : List UInt8 := dkwX0_isBoard_0 ++ []
theorem dksX0_isBoard_0 : cX0_isBoard.data.toList.drop 0 = dktX0_isBoard_0 := by decide +kernel
theorem dX0_isBoard_0 : decode cX0_isBoard 0 = .ok (.aload_n 0, 1) := dk_42 (dk_at dksX0_isBoard_0 0 rfl rfl)
theorem dX0_isBoard_1 : decode cX0_isBoard 1 = .ok (.getfield 31, 3) := dk_180 0 31 (dk_at dksX0_isBoard_0 1 rfl rfl)
theorem dX0_isBoard_4 : decode cX0_isBoard 4 = .ok (.getfield 159, 3) := dk_180 0 159 (dk_at dksX0_isBoard_0 4 rfl rfl)
theorem dX0_isBoard_7 : decode cX0_isBoard 7 = .ok (.ifCond .le 7, 3) := dk_158 0 7 (dk_at dksX0_isBoard_0 7 rfl rfl)
theorem dX0_isBoard_10 : decode cX0_isBoard 10 = .ok (.iconst 1, 1) := dk_4 (dk_at dksX0_isBoard_0 10 rfl rfl)
theorem dX0_isBoard_11 : decode cX0_isBoard 11 = .ok (.goto 4, 3) := dk_167 0 4 (dk_at dksX0_isBoard_0 11 rfl rfl)
theorem dX0_isBoard_14 : decode cX0_isBoard 14 = .ok (.iconst 0, 1) := dk_3 (dk_at dksX0_isBoard_0 14 rfl rfl)
theorem dX0_isBoard_15 : decode cX0_isBoard 15 = .ok (.ireturn, 1) := dk_172 (dk_at dksX0_isBoard_0 15 rfl rfl)
abbrev cX0_letter : ByteArray := prog_1_method_25_code
def yX0_letter : MethodName := ⟨RX0, "letter", "(III)I"⟩
def dkwX0_letter_3 : List UInt8 := [162, 0, 21, 25, 4, 28, 185, 0, 183, 2, 0, 192, 0, 227, 29, 182, 0, 229, 167, 0, 4, 2, 172]
abbrev dktX0_letter_3 : List UInt8 := dkwX0_letter_3 ++ []
def dkwX0_letter_2 : List UInt8 := [180, 0, 162, 167, 0, 10, 42, 180, 0, 31, 180, 0, 171, 58, 4, 28, 25, 4, 185, 0, 166, 1, 0]
abbrev dktX0_letter_2 : List UInt8 := dkwX0_letter_2 ++ dktX0_letter_3
def dkwX0_letter_1 : List UInt8 := [27, 154, 0, 13, 42, 180, 0, 31, 180, 0, 189, 167, 0, 25, 27, 4, 160, 0, 13, 42, 180, 0, 31]
abbrev dktX0_letter_1 : List UInt8 := dkwX0_letter_1 ++ dktX0_letter_2
def dkwX0_letter_0 : List UInt8 := [29, 3, 8, 184, 0, 178, 153, 0, 16, 27, 3, 5, 184, 0, 178, 153, 0, 7, 28, 156, 0, 5, 2, 172]
abbrev dktX0_letter_0 : List UInt8 := dkwX0_letter_0 ++ dktX0_letter_1
theorem dksX0_letter_0 : cX0_letter.data.toList.drop 0 = dktX0_letter_0 := by decide +kernel
theorem dksX0_letter_1 : cX0_letter.data.toList.drop 24 = dktX0_letter_1 := dk_seg dksX0_letter_0 24 rfl rfl
theorem dksX0_letter_2 : cX0_letter.data.toList.drop 47 = dktX0_letter_2 := dk_seg dksX0_letter_1 23 rfl rfl
theorem dksX0_letter_3 : cX0_letter.data.toList.drop 70 = dktX0_letter_3 := dk_seg dksX0_letter_2 23 rfl rfl
theorem dX0_letter_0 : decode cX0_letter 0 = .ok (.iload_n 3, 1) := dk_29 (dk_at dksX0_letter_0 0 rfl rfl)
theorem dX0_letter_1 : decode cX0_letter 1 = .ok (.iconst 0, 1) := dk_3 (dk_at dksX0_letter_0 1 rfl rfl)
theorem dX0_letter_2 : decode cX0_letter 2 = .ok (.iconst 5, 1) := dk_8 (dk_at dksX0_letter_0 2 rfl rfl)
theorem dX0_letter_3 : decode cX0_letter 3 = .ok (.invokestatic 178, 3) := dk_184 0 178 (dk_at dksX0_letter_0 3 rfl rfl)
theorem dX0_letter_6 : decode cX0_letter 6 = .ok (.ifCond .eq 16, 3) := dk_153 0 16 (dk_at dksX0_letter_0 6 rfl rfl)
theorem dX0_letter_9 : decode cX0_letter 9 = .ok (.iload_n 1, 1) := dk_27 (dk_at dksX0_letter_0 9 rfl rfl)
theorem dX0_letter_10 : decode cX0_letter 10 = .ok (.iconst 0, 1) := dk_3 (dk_at dksX0_letter_0 10 rfl rfl)
theorem dX0_letter_11 : decode cX0_letter 11 = .ok (.iconst 2, 1) := dk_5 (dk_at dksX0_letter_0 11 rfl rfl)
theorem dX0_letter_12 : decode cX0_letter 12 = .ok (.invokestatic 178, 3) := dk_184 0 178 (dk_at dksX0_letter_0 12 rfl rfl)
theorem dX0_letter_15 : decode cX0_letter 15 = .ok (.ifCond .eq 7, 3) := dk_153 0 7 (dk_at dksX0_letter_0 15 rfl rfl)
theorem dX0_letter_18 : decode cX0_letter 18 = .ok (.iload_n 2, 1) := dk_28 (dk_at dksX0_letter_0 18 rfl rfl)
theorem dX0_letter_19 : decode cX0_letter 19 = .ok (.ifCond .ge 5, 3) := dk_156 0 5 (dk_at dksX0_letter_0 19 rfl rfl)
theorem dX0_letter_22 : decode cX0_letter 22 = .ok (.iconst (-1), 1) := dk_2 (dk_at dksX0_letter_0 22 rfl rfl)
theorem dX0_letter_23 : decode cX0_letter 23 = .ok (.ireturn, 1) := dk_172 (dk_at dksX0_letter_0 23 rfl rfl)
theorem dX0_letter_24 : decode cX0_letter 24 = .ok (.iload_n 1, 1) := dk_27 (dk_at dksX0_letter_1 0 rfl rfl)
theorem dX0_letter_25 : decode cX0_letter 25 = .ok (.ifCond .ne 13, 3) := dk_154 0 13 (dk_at dksX0_letter_1 1 rfl rfl)
theorem dX0_letter_28 : decode cX0_letter 28 = .ok (.aload_n 0, 1) := dk_42 (dk_at dksX0_letter_1 4 rfl rfl)
theorem dX0_letter_29 : decode cX0_letter 29 = .ok (.getfield 31, 3) := dk_180 0 31 (dk_at dksX0_letter_1 5 rfl rfl)
theorem dX0_letter_32 : decode cX0_letter 32 = .ok (.getfield 189, 3) := dk_180 0 189 (dk_at dksX0_letter_1 8 rfl rfl)
theorem dX0_letter_35 : decode cX0_letter 35 = .ok (.goto 25, 3) := dk_167 0 25 (dk_at dksX0_letter_1 11 rfl rfl)
theorem dX0_letter_38 : decode cX0_letter 38 = .ok (.iload_n 1, 1) := dk_27 (dk_at dksX0_letter_1 14 rfl rfl)
theorem dX0_letter_39 : decode cX0_letter 39 = .ok (.iconst 1, 1) := dk_4 (dk_at dksX0_letter_1 15 rfl rfl)
theorem dX0_letter_40 : decode cX0_letter 40 = .ok (.if_icmp .ne 13, 3) := dk_160 0 13 (dk_at dksX0_letter_1 16 rfl rfl)
theorem dX0_letter_43 : decode cX0_letter 43 = .ok (.aload_n 0, 1) := dk_42 (dk_at dksX0_letter_1 19 rfl rfl)
theorem dX0_letter_44 : decode cX0_letter 44 = .ok (.getfield 31, 3) := dk_180 0 31 (dk_at dksX0_letter_1 20 rfl rfl)
theorem dX0_letter_47 : decode cX0_letter 47 = .ok (.getfield 162, 3) := dk_180 0 162 (dk_at dksX0_letter_2 0 rfl rfl)
theorem dX0_letter_50 : decode cX0_letter 50 = .ok (.goto 10, 3) := dk_167 0 10 (dk_at dksX0_letter_2 3 rfl rfl)
theorem dX0_letter_53 : decode cX0_letter 53 = .ok (.aload_n 0, 1) := dk_42 (dk_at dksX0_letter_2 6 rfl rfl)
theorem dX0_letter_54 : decode cX0_letter 54 = .ok (.getfield 31, 3) := dk_180 0 31 (dk_at dksX0_letter_2 7 rfl rfl)
theorem dX0_letter_57 : decode cX0_letter 57 = .ok (.getfield 171, 3) := dk_180 0 171 (dk_at dksX0_letter_2 10 rfl rfl)
theorem dX0_letter_60 : decode cX0_letter 60 = .ok (.astore 4, 2) := dk_58 4 (dk_at dksX0_letter_2 13 rfl rfl)
theorem dX0_letter_62 : decode cX0_letter 62 = .ok (.iload_n 2, 1) := dk_28 (dk_at dksX0_letter_2 15 rfl rfl)
theorem dX0_letter_63 : decode cX0_letter 63 = .ok (.aload 4, 2) := dk_25 4 (dk_at dksX0_letter_2 16 rfl rfl)
theorem dX0_letter_65 : decode cX0_letter 65 = .ok (.invokeinterface 166 1, 5) := by decide +kernel
theorem dX0_letter_70 : decode cX0_letter 70 = .ok (.if_icmp .ge 21, 3) := dk_162 0 21 (dk_at dksX0_letter_3 0 rfl rfl)
theorem dX0_letter_73 : decode cX0_letter 73 = .ok (.aload 4, 2) := dk_25 4 (dk_at dksX0_letter_3 3 rfl rfl)
theorem dX0_letter_75 : decode cX0_letter 75 = .ok (.iload_n 2, 1) := dk_28 (dk_at dksX0_letter_3 5 rfl rfl)
theorem dX0_letter_76 : decode cX0_letter 76 = .ok (.invokeinterface 183 2, 5) := by decide +kernel
theorem dX0_letter_81 : decode cX0_letter 81 = .ok (.checkcast 227, 3) := dk_192 0 227 (dk_at dksX0_letter_3 11 rfl rfl)
theorem dX0_letter_84 : decode cX0_letter 84 = .ok (.iload_n 3, 1) := dk_29 (dk_at dksX0_letter_3 14 rfl rfl)
theorem dX0_letter_85 : decode cX0_letter 85 = .ok (.invokevirtual 229, 3) := dk_182 0 229 (dk_at dksX0_letter_3 15 rfl rfl)
theorem dX0_letter_88 : decode cX0_letter 88 = .ok (.goto 4, 3) := dk_167 0 4 (dk_at dksX0_letter_3 18 rfl rfl)
theorem dX0_letter_91 : decode cX0_letter 91 = .ok (.iconst (-1), 1) := dk_2 (dk_at dksX0_letter_3 21 rfl rfl)
theorem dX0_letter_92 : decode cX0_letter 92 = .ok (.ireturn, 1) := dk_172 (dk_at dksX0_letter_3 22 rfl rfl)
abbrev cX0_kind : ByteArray := prog_1_method_26_code
def yX0_kind : MethodName := ⟨RX0, "kind", "(II)I"⟩
def dkwX0_kind_4 : List UInt8 := [167, 0, 4, 2, 172]
abbrev dktX0_kind_4 : List UInt8 := dkwX0_kind_4 ++ []
def dkwX0_kind_3 : List UInt8 := [180, 0, 238, 167, 0, 24, 28, 6, 160, 0, 18, 45, 180, 0, 241, 153, 0, 7, 4, 167, 0, 8, 3]
abbrev dktX0_kind_3 : List UInt8 := dkwX0_kind_3 ++ dktX0_kind_4
def dkwX0_kind_2 : List UInt8 := [180, 0, 232, 167, 0, 48, 28, 4, 160, 0, 10, 45, 180, 0, 235, 167, 0, 36, 28, 5, 160, 0, 10, 45]
abbrev dktX0_kind_2 : List UInt8 := dkwX0_kind_2 ++ dktX0_kind_3
def dkwX0_kind_1 : List UInt8 := [42, 180, 0, 31, 180, 0, 189, 27, 185, 0, 183, 2, 0, 192, 0, 197, 78, 28, 154, 0, 10, 45]
abbrev dktX0_kind_1 : List UInt8 := dkwX0_kind_1 ++ dktX0_kind_2
def dkwX0_kind_0 : List UInt8 := [27, 3, 42, 180, 0, 31, 180, 0, 189, 185, 0, 166, 1, 0, 4, 100, 184, 0, 178, 154, 0, 5, 2, 172]
abbrev dktX0_kind_0 : List UInt8 := dkwX0_kind_0 ++ dktX0_kind_1
theorem dksX0_kind_0 : cX0_kind.data.toList.drop 0 = dktX0_kind_0 := by decide +kernel
theorem dksX0_kind_1 : cX0_kind.data.toList.drop 24 = dktX0_kind_1 := dk_seg dksX0_kind_0 24 rfl rfl
theorem dksX0_kind_2 : cX0_kind.data.toList.drop 46 = dktX0_kind_2 := dk_seg dksX0_kind_1 22 rfl rfl
theorem dksX0_kind_3 : cX0_kind.data.toList.drop 70 = dktX0_kind_3 := dk_seg dksX0_kind_2 24 rfl rfl
theorem dksX0_kind_4 : cX0_kind.data.toList.drop 93 = dktX0_kind_4 := dk_seg dksX0_kind_3 23 rfl rfl
theorem dX0_kind_0 : decode cX0_kind 0 = .ok (.iload_n 1, 1) := dk_27 (dk_at dksX0_kind_0 0 rfl rfl)
theorem dX0_kind_1 : decode cX0_kind 1 = .ok (.iconst 0, 1) := dk_3 (dk_at dksX0_kind_0 1 rfl rfl)
theorem dX0_kind_2 : decode cX0_kind 2 = .ok (.aload_n 0, 1) := dk_42 (dk_at dksX0_kind_0 2 rfl rfl)
theorem dX0_kind_3 : decode cX0_kind 3 = .ok (.getfield 31, 3) := dk_180 0 31 (dk_at dksX0_kind_0 3 rfl rfl)
theorem dX0_kind_6 : decode cX0_kind 6 = .ok (.getfield 189, 3) := dk_180 0 189 (dk_at dksX0_kind_0 6 rfl rfl)
theorem dX0_kind_9 : decode cX0_kind 9 = .ok (.invokeinterface 166 1, 5) := by decide +kernel
theorem dX0_kind_14 : decode cX0_kind 14 = .ok (.iconst 1, 1) := dk_4 (dk_at dksX0_kind_0 14 rfl rfl)
theorem dX0_kind_15 : decode cX0_kind 15 = .ok (.isub, 1) := dk_100 (dk_at dksX0_kind_0 15 rfl rfl)
theorem dX0_kind_16 : decode cX0_kind 16 = .ok (.invokestatic 178, 3) := dk_184 0 178 (dk_at dksX0_kind_0 16 rfl rfl)
theorem dX0_kind_19 : decode cX0_kind 19 = .ok (.ifCond .ne 5, 3) := dk_154 0 5 (dk_at dksX0_kind_0 19 rfl rfl)
theorem dX0_kind_22 : decode cX0_kind 22 = .ok (.iconst (-1), 1) := dk_2 (dk_at dksX0_kind_0 22 rfl rfl)
theorem dX0_kind_23 : decode cX0_kind 23 = .ok (.ireturn, 1) := dk_172 (dk_at dksX0_kind_0 23 rfl rfl)
theorem dX0_kind_24 : decode cX0_kind 24 = .ok (.aload_n 0, 1) := dk_42 (dk_at dksX0_kind_1 0 rfl rfl)
theorem dX0_kind_25 : decode cX0_kind 25 = .ok (.getfield 31, 3) := dk_180 0 31 (dk_at dksX0_kind_1 1 rfl rfl)
theorem dX0_kind_28 : decode cX0_kind 28 = .ok (.getfield 189, 3) := dk_180 0 189 (dk_at dksX0_kind_1 4 rfl rfl)
theorem dX0_kind_31 : decode cX0_kind 31 = .ok (.iload_n 1, 1) := dk_27 (dk_at dksX0_kind_1 7 rfl rfl)
theorem dX0_kind_32 : decode cX0_kind 32 = .ok (.invokeinterface 183 2, 5) := by decide +kernel
theorem dX0_kind_37 : decode cX0_kind 37 = .ok (.checkcast 197, 3) := dk_192 0 197 (dk_at dksX0_kind_1 13 rfl rfl)
theorem dX0_kind_40 : decode cX0_kind 40 = .ok (.astore_n 3, 1) := dk_78 (dk_at dksX0_kind_1 16 rfl rfl)
theorem dX0_kind_41 : decode cX0_kind 41 = .ok (.iload_n 2, 1) := dk_28 (dk_at dksX0_kind_1 17 rfl rfl)
theorem dX0_kind_42 : decode cX0_kind 42 = .ok (.ifCond .ne 10, 3) := dk_154 0 10 (dk_at dksX0_kind_1 18 rfl rfl)
theorem dX0_kind_45 : decode cX0_kind 45 = .ok (.aload_n 3, 1) := dk_45 (dk_at dksX0_kind_1 21 rfl rfl)
theorem dX0_kind_46 : decode cX0_kind 46 = .ok (.getfield 232, 3) := dk_180 0 232 (dk_at dksX0_kind_2 0 rfl rfl)
theorem dX0_kind_49 : decode cX0_kind 49 = .ok (.goto 48, 3) := dk_167 0 48 (dk_at dksX0_kind_2 3 rfl rfl)
theorem dX0_kind_52 : decode cX0_kind 52 = .ok (.iload_n 2, 1) := dk_28 (dk_at dksX0_kind_2 6 rfl rfl)
theorem dX0_kind_53 : decode cX0_kind 53 = .ok (.iconst 1, 1) := dk_4 (dk_at dksX0_kind_2 7 rfl rfl)
theorem dX0_kind_54 : decode cX0_kind 54 = .ok (.if_icmp .ne 10, 3) := dk_160 0 10 (dk_at dksX0_kind_2 8 rfl rfl)
theorem dX0_kind_57 : decode cX0_kind 57 = .ok (.aload_n 3, 1) := dk_45 (dk_at dksX0_kind_2 11 rfl rfl)
theorem dX0_kind_58 : decode cX0_kind 58 = .ok (.getfield 235, 3) := dk_180 0 235 (dk_at dksX0_kind_2 12 rfl rfl)
theorem dX0_kind_61 : decode cX0_kind 61 = .ok (.goto 36, 3) := dk_167 0 36 (dk_at dksX0_kind_2 15 rfl rfl)
theorem dX0_kind_64 : decode cX0_kind 64 = .ok (.iload_n 2, 1) := dk_28 (dk_at dksX0_kind_2 18 rfl rfl)
theorem dX0_kind_65 : decode cX0_kind 65 = .ok (.iconst 2, 1) := dk_5 (dk_at dksX0_kind_2 19 rfl rfl)
theorem dX0_kind_66 : decode cX0_kind 66 = .ok (.if_icmp .ne 10, 3) := dk_160 0 10 (dk_at dksX0_kind_2 20 rfl rfl)
theorem dX0_kind_69 : decode cX0_kind 69 = .ok (.aload_n 3, 1) := dk_45 (dk_at dksX0_kind_2 23 rfl rfl)
theorem dX0_kind_70 : decode cX0_kind 70 = .ok (.getfield 238, 3) := dk_180 0 238 (dk_at dksX0_kind_3 0 rfl rfl)
theorem dX0_kind_73 : decode cX0_kind 73 = .ok (.goto 24, 3) := dk_167 0 24 (dk_at dksX0_kind_3 3 rfl rfl)
theorem dX0_kind_76 : decode cX0_kind 76 = .ok (.iload_n 2, 1) := dk_28 (dk_at dksX0_kind_3 6 rfl rfl)
theorem dX0_kind_77 : decode cX0_kind 77 = .ok (.iconst 3, 1) := dk_6 (dk_at dksX0_kind_3 7 rfl rfl)
theorem dX0_kind_78 : decode cX0_kind 78 = .ok (.if_icmp .ne 18, 3) := dk_160 0 18 (dk_at dksX0_kind_3 8 rfl rfl)
theorem dX0_kind_81 : decode cX0_kind 81 = .ok (.aload_n 3, 1) := dk_45 (dk_at dksX0_kind_3 11 rfl rfl)
theorem dX0_kind_82 : decode cX0_kind 82 = .ok (.getfield 241, 3) := dk_180 0 241 (dk_at dksX0_kind_3 12 rfl rfl)
theorem dX0_kind_85 : decode cX0_kind 85 = .ok (.ifCond .eq 7, 3) := dk_153 0 7 (dk_at dksX0_kind_3 15 rfl rfl)
theorem dX0_kind_88 : decode cX0_kind 88 = .ok (.iconst 1, 1) := dk_4 (dk_at dksX0_kind_3 18 rfl rfl)
theorem dX0_kind_89 : decode cX0_kind 89 = .ok (.goto 8, 3) := dk_167 0 8 (dk_at dksX0_kind_3 19 rfl rfl)
theorem dX0_kind_92 : decode cX0_kind 92 = .ok (.iconst 0, 1) := dk_3 (dk_at dksX0_kind_3 22 rfl rfl)
theorem dX0_kind_93 : decode cX0_kind 93 = .ok (.goto 4, 3) := dk_167 0 4 (dk_at dksX0_kind_4 0 rfl rfl)
theorem dX0_kind_96 : decode cX0_kind 96 = .ok (.iconst (-1), 1) := dk_2 (dk_at dksX0_kind_4 3 rfl rfl)
theorem dX0_kind_97 : decode cX0_kind 97 = .ok (.ireturn, 1) := dk_172 (dk_at dksX0_kind_4 4 rfl rfl)
abbrev cX0_man : ByteArray := prog_1_method_27_code
def yX0_man : MethodName := ⟨RX0, "man", "(II)I"⟩
def dkwX0_man_4 : List UInt8 := [27, 182, 0, 252, 172, 2, 172]
abbrev dktX0_man_4 : List UInt8 := dkwX0_man_4 ++ []
def dkwX0_man_3 : List UInt8 := [108, 172, 42, 27, 182, 0, 192, 180, 0, 196, 172, 42, 27, 182, 0, 192, 180, 0, 251, 172, 42, 180, 0, 83]
abbrev dktX0_man_3 : List UInt8 := dkwX0_man_3 ++ dktX0_man_4
def dkwX0_man_2 : List UInt8 := [29, 2, 160, 0, 7, 2, 167, 0, 6, 29, 8, 112, 172, 29, 2, 160, 0, 7, 2, 167, 0, 6, 29, 8]
abbrev dktX0_man_2 : List UInt8 := dkwX0_man_2 ++ dktX0_man_3
def dkwX0_man_1 : List UInt8 := [170, 0, 0, 0, 0, 0, 88, 0, 0, 0, 0, 0, 0, 0, 4, 0, 0, 0, 35, 0, 0, 0, 48, 0, 0, 0, 61, 0, 0, 0, 70, 0, 0, 0, 79]
abbrev dktX0_man_1 : List UInt8 := dkwX0_man_1 ++ dktX0_man_2
def dkwX0_man_0 : List UInt8 := [42, 27, 182, 0, 245, 154, 0, 5, 2, 172, 42, 180, 0, 83, 180, 0, 249, 27, 46, 62, 28]
abbrev dktX0_man_0 : List UInt8 := dkwX0_man_0 ++ dktX0_man_1
theorem dksX0_man_0 : cX0_man.data.toList.drop 0 = dktX0_man_0 := by decide +kernel
theorem dksX0_man_1 : cX0_man.data.toList.drop 21 = dktX0_man_1 := dk_seg dksX0_man_0 21 rfl rfl
theorem dksX0_man_2 : cX0_man.data.toList.drop 56 = dktX0_man_2 := dk_seg dksX0_man_1 35 rfl rfl
theorem dksX0_man_3 : cX0_man.data.toList.drop 80 = dktX0_man_3 := dk_seg dksX0_man_2 24 rfl rfl
theorem dksX0_man_4 : cX0_man.data.toList.drop 104 = dktX0_man_4 := dk_seg dksX0_man_3 24 rfl rfl
theorem dX0_man_0 : decode cX0_man 0 = .ok (.aload_n 0, 1) := dk_42 (dk_at dksX0_man_0 0 rfl rfl)
theorem dX0_man_1 : decode cX0_man 1 = .ok (.iload_n 1, 1) := dk_27 (dk_at dksX0_man_0 1 rfl rfl)
theorem dX0_man_2 : decode cX0_man 2 = .ok (.invokevirtual 245, 3) := dk_182 0 245 (dk_at dksX0_man_0 2 rfl rfl)
theorem dX0_man_5 : decode cX0_man 5 = .ok (.ifCond .ne 5, 3) := dk_154 0 5 (dk_at dksX0_man_0 5 rfl rfl)
theorem dX0_man_8 : decode cX0_man 8 = .ok (.iconst (-1), 1) := dk_2 (dk_at dksX0_man_0 8 rfl rfl)
theorem dX0_man_9 : decode cX0_man 9 = .ok (.ireturn, 1) := dk_172 (dk_at dksX0_man_0 9 rfl rfl)
theorem dX0_man_10 : decode cX0_man 10 = .ok (.aload_n 0, 1) := dk_42 (dk_at dksX0_man_0 10 rfl rfl)
theorem dX0_man_11 : decode cX0_man 11 = .ok (.getfield 83, 3) := dk_180 0 83 (dk_at dksX0_man_0 11 rfl rfl)
theorem dX0_man_14 : decode cX0_man 14 = .ok (.getfield 249, 3) := dk_180 0 249 (dk_at dksX0_man_0 14 rfl rfl)
theorem dX0_man_17 : decode cX0_man 17 = .ok (.iload_n 1, 1) := dk_27 (dk_at dksX0_man_0 17 rfl rfl)
theorem dX0_man_18 : decode cX0_man 18 = .ok (.iaload, 1) := dk_46 (dk_at dksX0_man_0 18 rfl rfl)
theorem dX0_man_19 : decode cX0_man 19 = .ok (.istore_n 3, 1) := dk_62 (dk_at dksX0_man_0 19 rfl rfl)
theorem dX0_man_20 : decode cX0_man 20 = .ok (.iload_n 2, 1) := dk_28 (dk_at dksX0_man_0 20 rfl rfl)
theorem dX0_man_21 : decode cX0_man 21 = .ok (.tableswitch 88 0 4 #[35, 48, 61, 70, 79], 35) := by decide +kernel
theorem dX0_man_56 : decode cX0_man 56 = .ok (.iload_n 3, 1) := dk_29 (dk_at dksX0_man_2 0 rfl rfl)
theorem dX0_man_57 : decode cX0_man 57 = .ok (.iconst (-1), 1) := dk_2 (dk_at dksX0_man_2 1 rfl rfl)
theorem dX0_man_58 : decode cX0_man 58 = .ok (.if_icmp .ne 7, 3) := dk_160 0 7 (dk_at dksX0_man_2 2 rfl rfl)
theorem dX0_man_61 : decode cX0_man 61 = .ok (.iconst (-1), 1) := dk_2 (dk_at dksX0_man_2 5 rfl rfl)
theorem dX0_man_62 : decode cX0_man 62 = .ok (.goto 6, 3) := dk_167 0 6 (dk_at dksX0_man_2 6 rfl rfl)
theorem dX0_man_65 : decode cX0_man 65 = .ok (.iload_n 3, 1) := dk_29 (dk_at dksX0_man_2 9 rfl rfl)
theorem dX0_man_66 : decode cX0_man 66 = .ok (.iconst 5, 1) := dk_8 (dk_at dksX0_man_2 10 rfl rfl)
theorem dX0_man_67 : decode cX0_man 67 = .ok (.irem, 1) := dk_112 (dk_at dksX0_man_2 11 rfl rfl)
theorem dX0_man_68 : decode cX0_man 68 = .ok (.ireturn, 1) := dk_172 (dk_at dksX0_man_2 12 rfl rfl)
theorem dX0_man_69 : decode cX0_man 69 = .ok (.iload_n 3, 1) := dk_29 (dk_at dksX0_man_2 13 rfl rfl)
theorem dX0_man_70 : decode cX0_man 70 = .ok (.iconst (-1), 1) := dk_2 (dk_at dksX0_man_2 14 rfl rfl)
theorem dX0_man_71 : decode cX0_man 71 = .ok (.if_icmp .ne 7, 3) := dk_160 0 7 (dk_at dksX0_man_2 15 rfl rfl)
theorem dX0_man_74 : decode cX0_man 74 = .ok (.iconst (-1), 1) := dk_2 (dk_at dksX0_man_2 18 rfl rfl)
theorem dX0_man_75 : decode cX0_man 75 = .ok (.goto 6, 3) := dk_167 0 6 (dk_at dksX0_man_2 19 rfl rfl)
theorem dX0_man_78 : decode cX0_man 78 = .ok (.iload_n 3, 1) := dk_29 (dk_at dksX0_man_2 22 rfl rfl)
theorem dX0_man_79 : decode cX0_man 79 = .ok (.iconst 5, 1) := dk_8 (dk_at dksX0_man_2 23 rfl rfl)
theorem dX0_man_80 : decode cX0_man 80 = .ok (.idiv, 1) := dk_108 (dk_at dksX0_man_3 0 rfl rfl)
theorem dX0_man_81 : decode cX0_man 81 = .ok (.ireturn, 1) := dk_172 (dk_at dksX0_man_3 1 rfl rfl)
theorem dX0_man_82 : decode cX0_man 82 = .ok (.aload_n 0, 1) := dk_42 (dk_at dksX0_man_3 2 rfl rfl)
theorem dX0_man_83 : decode cX0_man 83 = .ok (.iload_n 1, 1) := dk_27 (dk_at dksX0_man_3 3 rfl rfl)
theorem dX0_man_84 : decode cX0_man 84 = .ok (.invokevirtual 192, 3) := dk_182 0 192 (dk_at dksX0_man_3 4 rfl rfl)
theorem dX0_man_87 : decode cX0_man 87 = .ok (.getfield 196, 3) := dk_180 0 196 (dk_at dksX0_man_3 7 rfl rfl)
theorem dX0_man_90 : decode cX0_man 90 = .ok (.ireturn, 1) := dk_172 (dk_at dksX0_man_3 10 rfl rfl)
theorem dX0_man_91 : decode cX0_man 91 = .ok (.aload_n 0, 1) := dk_42 (dk_at dksX0_man_3 11 rfl rfl)
theorem dX0_man_92 : decode cX0_man 92 = .ok (.iload_n 1, 1) := dk_27 (dk_at dksX0_man_3 12 rfl rfl)
theorem dX0_man_93 : decode cX0_man 93 = .ok (.invokevirtual 192, 3) := dk_182 0 192 (dk_at dksX0_man_3 13 rfl rfl)
theorem dX0_man_96 : decode cX0_man 96 = .ok (.getfield 251, 3) := dk_180 0 251 (dk_at dksX0_man_3 16 rfl rfl)
theorem dX0_man_99 : decode cX0_man 99 = .ok (.ireturn, 1) := dk_172 (dk_at dksX0_man_3 19 rfl rfl)
theorem dX0_man_100 : decode cX0_man 100 = .ok (.aload_n 0, 1) := dk_42 (dk_at dksX0_man_3 20 rfl rfl)
theorem dX0_man_101 : decode cX0_man 101 = .ok (.getfield 83, 3) := dk_180 0 83 (dk_at dksX0_man_3 21 rfl rfl)
theorem dX0_man_104 : decode cX0_man 104 = .ok (.iload_n 1, 1) := dk_27 (dk_at dksX0_man_4 0 rfl rfl)
theorem dX0_man_105 : decode cX0_man 105 = .ok (.invokevirtual 252, 3) := dk_182 0 252 (dk_at dksX0_man_4 1 rfl rfl)
theorem dX0_man_108 : decode cX0_man 108 = .ok (.ireturn, 1) := dk_172 (dk_at dksX0_man_4 4 rfl rfl)
theorem dX0_man_109 : decode cX0_man 109 = .ok (.iconst (-1), 1) := dk_2 (dk_at dksX0_man_4 5 rfl rfl)
theorem dX0_man_110 : decode cX0_man 110 = .ok (.ireturn, 1) := dk_172 (dk_at dksX0_man_4 6 rfl rfl)
abbrev cX0_isMan : ByteArray := prog_1_method_18_code
def yX0_isMan : MethodName := ⟨RX0, "isMan", "(I)Z"⟩
def dkwX0_isMan_0 : List UInt8 := [27, 155, 0, 15, 27, 42, 182, 0, 174, 162, 0, 7, 4, 167, 0, 4, 3, 172]
abbrev dktX0_isMan_0 : List UInt8 := dkwX0_isMan_0 ++ []
theorem dksX0_isMan_0 : cX0_isMan.data.toList.drop 0 = dktX0_isMan_0 := by decide +kernel
theorem dX0_isMan_0 : decode cX0_isMan 0 = .ok (.iload_n 1, 1) := dk_27 (dk_at dksX0_isMan_0 0 rfl rfl)
theorem dX0_isMan_1 : decode cX0_isMan 1 = .ok (.ifCond .lt 15, 3) := dk_155 0 15 (dk_at dksX0_isMan_0 1 rfl rfl)
theorem dX0_isMan_4 : decode cX0_isMan 4 = .ok (.iload_n 1, 1) := dk_27 (dk_at dksX0_isMan_0 4 rfl rfl)
theorem dX0_isMan_5 : decode cX0_isMan 5 = .ok (.aload_n 0, 1) := dk_42 (dk_at dksX0_isMan_0 5 rfl rfl)
theorem dX0_isMan_6 : decode cX0_isMan 6 = .ok (.invokevirtual 174, 3) := dk_182 0 174 (dk_at dksX0_isMan_0 6 rfl rfl)
theorem dX0_isMan_9 : decode cX0_isMan 9 = .ok (.if_icmp .ge 7, 3) := dk_162 0 7 (dk_at dksX0_isMan_0 9 rfl rfl)
theorem dX0_isMan_12 : decode cX0_isMan 12 = .ok (.iconst 1, 1) := dk_4 (dk_at dksX0_isMan_0 12 rfl rfl)
theorem dX0_isMan_13 : decode cX0_isMan 13 = .ok (.goto 4, 3) := dk_167 0 4 (dk_at dksX0_isMan_0 13 rfl rfl)
theorem dX0_isMan_16 : decode cX0_isMan 16 = .ok (.iconst 0, 1) := dk_3 (dk_at dksX0_isMan_0 16 rfl rfl)
theorem dX0_isMan_17 : decode cX0_isMan 17 = .ok (.ireturn, 1) := dk_172 (dk_at dksX0_isMan_0 17 rfl rfl)
abbrev cX0_field : ByteArray := prog_1_method_28_code
def yX0_field : MethodName := ⟨RX0, "field", "(II)I"⟩
def dkwX0_field_2 : List UInt8 := [167, 0, 21, 28, 5, 160, 0, 15, 42, 180, 0, 83, 180, 1, 10, 27, 46, 167, 0, 4, 2, 172]
abbrev dktX0_field_2 : List UInt8 := dkwX0_field_2 ++ []
def dkwX0_field_1 : List UInt8 := [192, 1, 2, 78, 28, 154, 0, 10, 45, 180, 1, 4, 167, 0, 33, 28, 4, 160, 0, 10, 45, 180, 1, 7]
abbrev dktX0_field_1 : List UInt8 := dkwX0_field_1 ++ dktX0_field_2
def dkwX0_field_0 : List UInt8 := [42, 27, 182, 0, 255, 154, 0, 5, 2, 172, 42, 180, 0, 31, 180, 0, 171, 27, 185, 0, 183, 2, 0]
abbrev dktX0_field_0 : List UInt8 := dkwX0_field_0 ++ dktX0_field_1
theorem dksX0_field_0 : cX0_field.data.toList.drop 0 = dktX0_field_0 := by decide +kernel
theorem dksX0_field_1 : cX0_field.data.toList.drop 23 = dktX0_field_1 := dk_seg dksX0_field_0 23 rfl rfl
theorem dksX0_field_2 : cX0_field.data.toList.drop 47 = dktX0_field_2 := dk_seg dksX0_field_1 24 rfl rfl
theorem dX0_field_0 : decode cX0_field 0 = .ok (.aload_n 0, 1) := dk_42 (dk_at dksX0_field_0 0 rfl rfl)
theorem dX0_field_1 : decode cX0_field 1 = .ok (.iload_n 1, 1) := dk_27 (dk_at dksX0_field_0 1 rfl rfl)
theorem dX0_field_2 : decode cX0_field 2 = .ok (.invokevirtual 255, 3) := dk_182 0 255 (dk_at dksX0_field_0 2 rfl rfl)
theorem dX0_field_5 : decode cX0_field 5 = .ok (.ifCond .ne 5, 3) := dk_154 0 5 (dk_at dksX0_field_0 5 rfl rfl)
theorem dX0_field_8 : decode cX0_field 8 = .ok (.iconst (-1), 1) := dk_2 (dk_at dksX0_field_0 8 rfl rfl)
theorem dX0_field_9 : decode cX0_field 9 = .ok (.ireturn, 1) := dk_172 (dk_at dksX0_field_0 9 rfl rfl)
theorem dX0_field_10 : decode cX0_field 10 = .ok (.aload_n 0, 1) := dk_42 (dk_at dksX0_field_0 10 rfl rfl)
theorem dX0_field_11 : decode cX0_field 11 = .ok (.getfield 31, 3) := dk_180 0 31 (dk_at dksX0_field_0 11 rfl rfl)
theorem dX0_field_14 : decode cX0_field 14 = .ok (.getfield 171, 3) := dk_180 0 171 (dk_at dksX0_field_0 14 rfl rfl)
theorem dX0_field_17 : decode cX0_field 17 = .ok (.iload_n 1, 1) := dk_27 (dk_at dksX0_field_0 17 rfl rfl)
theorem dX0_field_18 : decode cX0_field 18 = .ok (.invokeinterface 183 2, 5) := by decide +kernel
theorem dX0_field_23 : decode cX0_field 23 = .ok (.checkcast 258, 3) := dk_192 1 2 (dk_at dksX0_field_1 0 rfl rfl)
theorem dX0_field_26 : decode cX0_field 26 = .ok (.astore_n 3, 1) := dk_78 (dk_at dksX0_field_1 3 rfl rfl)
theorem dX0_field_27 : decode cX0_field 27 = .ok (.iload_n 2, 1) := dk_28 (dk_at dksX0_field_1 4 rfl rfl)
theorem dX0_field_28 : decode cX0_field 28 = .ok (.ifCond .ne 10, 3) := dk_154 0 10 (dk_at dksX0_field_1 5 rfl rfl)
theorem dX0_field_31 : decode cX0_field 31 = .ok (.aload_n 3, 1) := dk_45 (dk_at dksX0_field_1 8 rfl rfl)
theorem dX0_field_32 : decode cX0_field 32 = .ok (.getfield 260, 3) := dk_180 1 4 (dk_at dksX0_field_1 9 rfl rfl)
theorem dX0_field_35 : decode cX0_field 35 = .ok (.goto 33, 3) := dk_167 0 33 (dk_at dksX0_field_1 12 rfl rfl)
theorem dX0_field_38 : decode cX0_field 38 = .ok (.iload_n 2, 1) := dk_28 (dk_at dksX0_field_1 15 rfl rfl)
theorem dX0_field_39 : decode cX0_field 39 = .ok (.iconst 1, 1) := dk_4 (dk_at dksX0_field_1 16 rfl rfl)
theorem dX0_field_40 : decode cX0_field 40 = .ok (.if_icmp .ne 10, 3) := dk_160 0 10 (dk_at dksX0_field_1 17 rfl rfl)
theorem dX0_field_43 : decode cX0_field 43 = .ok (.aload_n 3, 1) := dk_45 (dk_at dksX0_field_1 20 rfl rfl)
theorem dX0_field_44 : decode cX0_field 44 = .ok (.getfield 263, 3) := dk_180 1 7 (dk_at dksX0_field_1 21 rfl rfl)
theorem dX0_field_47 : decode cX0_field 47 = .ok (.goto 21, 3) := dk_167 0 21 (dk_at dksX0_field_2 0 rfl rfl)
theorem dX0_field_50 : decode cX0_field 50 = .ok (.iload_n 2, 1) := dk_28 (dk_at dksX0_field_2 3 rfl rfl)
theorem dX0_field_51 : decode cX0_field 51 = .ok (.iconst 2, 1) := dk_5 (dk_at dksX0_field_2 4 rfl rfl)
theorem dX0_field_52 : decode cX0_field 52 = .ok (.if_icmp .ne 15, 3) := dk_160 0 15 (dk_at dksX0_field_2 5 rfl rfl)
theorem dX0_field_55 : decode cX0_field 55 = .ok (.aload_n 0, 1) := dk_42 (dk_at dksX0_field_2 8 rfl rfl)
theorem dX0_field_56 : decode cX0_field 56 = .ok (.getfield 83, 3) := dk_180 0 83 (dk_at dksX0_field_2 9 rfl rfl)
theorem dX0_field_59 : decode cX0_field 59 = .ok (.getfield 266, 3) := dk_180 1 10 (dk_at dksX0_field_2 12 rfl rfl)
theorem dX0_field_62 : decode cX0_field 62 = .ok (.iload_n 1, 1) := dk_27 (dk_at dksX0_field_2 15 rfl rfl)
theorem dX0_field_63 : decode cX0_field 63 = .ok (.iaload, 1) := dk_46 (dk_at dksX0_field_2 16 rfl rfl)
theorem dX0_field_64 : decode cX0_field 64 = .ok (.goto 4, 3) := dk_167 0 4 (dk_at dksX0_field_2 17 rfl rfl)
theorem dX0_field_67 : decode cX0_field 67 = .ok (.iconst (-1), 1) := dk_2 (dk_at dksX0_field_2 20 rfl rfl)
theorem dX0_field_68 : decode cX0_field 68 = .ok (.ireturn, 1) := dk_172 (dk_at dksX0_field_2 21 rfl rfl)
abbrev cX0_isField : ByteArray := prog_1_method_19_code
def yX0_isField : MethodName := ⟨RX0, "isField", "(I)Z"⟩
def dkwX0_isField_0 : List UInt8 := [27, 155, 0, 15, 27, 42, 182, 0, 176, 162, 0, 7, 4, 167, 0, 4, 3, 172]
abbrev dktX0_isField_0 : List UInt8 := dkwX0_isField_0 ++ []
theorem dksX0_isField_0 : cX0_isField.data.toList.drop 0 = dktX0_isField_0 := by decide +kernel
theorem dX0_isField_0 : decode cX0_isField 0 = .ok (.iload_n 1, 1) := dk_27 (dk_at dksX0_isField_0 0 rfl rfl)
theorem dX0_isField_1 : decode cX0_isField 1 = .ok (.ifCond .lt 15, 3) := dk_155 0 15 (dk_at dksX0_isField_0 1 rfl rfl)
theorem dX0_isField_4 : decode cX0_isField 4 = .ok (.iload_n 1, 1) := dk_27 (dk_at dksX0_isField_0 4 rfl rfl)
theorem dX0_isField_5 : decode cX0_isField 5 = .ok (.aload_n 0, 1) := dk_42 (dk_at dksX0_isField_0 5 rfl rfl)
theorem dX0_isField_6 : decode cX0_isField 6 = .ok (.invokevirtual 176, 3) := dk_182 0 176 (dk_at dksX0_isField_0 6 rfl rfl)
theorem dX0_isField_9 : decode cX0_isField 9 = .ok (.if_icmp .ge 7, 3) := dk_162 0 7 (dk_at dksX0_isField_0 9 rfl rfl)
theorem dX0_isField_12 : decode cX0_isField 12 = .ok (.iconst 1, 1) := dk_4 (dk_at dksX0_isField_0 12 rfl rfl)
theorem dX0_isField_13 : decode cX0_isField 13 = .ok (.goto 4, 3) := dk_167 0 4 (dk_at dksX0_isField_0 13 rfl rfl)
theorem dX0_isField_16 : decode cX0_isField 16 = .ok (.iconst 0, 1) := dk_3 (dk_at dksX0_isField_0 16 rfl rfl)
theorem dX0_isField_17 : decode cX0_isField 17 = .ok (.ireturn, 1) := dk_172 (dk_at dksX0_isField_0 17 rfl rfl)
abbrev cX0_at : ByteArray := prog_1_method_29_code
def yX0_at : MethodName := ⟨RX0, "at", "(II)I"⟩
def dkwX0_at_1 : List UInt8 := [167, 0, 4, 2, 172]
abbrev dktX0_at_1 : List UInt8 := dkwX0_at_1 ++ []
def dkwX0_at_0 : List UInt8 := [42, 27, 28, 182, 1, 13, 153, 0, 19, 42, 180, 0, 83, 180, 1, 17, 8, 28, 104, 27, 96, 46]
abbrev dktX0_at_0 : List UInt8 := dkwX0_at_0 ++ dktX0_at_1
theorem dksX0_at_0 : cX0_at.data.toList.drop 0 = dktX0_at_0 := by decide +kernel
theorem dksX0_at_1 : cX0_at.data.toList.drop 22 = dktX0_at_1 := dk_seg dksX0_at_0 22 rfl rfl
theorem dX0_at_0 : decode cX0_at 0 = .ok (.aload_n 0, 1) := dk_42 (dk_at dksX0_at_0 0 rfl rfl)
theorem dX0_at_1 : decode cX0_at 1 = .ok (.iload_n 1, 1) := dk_27 (dk_at dksX0_at_0 1 rfl rfl)
theorem dX0_at_2 : decode cX0_at 2 = .ok (.iload_n 2, 1) := dk_28 (dk_at dksX0_at_0 2 rfl rfl)
theorem dX0_at_3 : decode cX0_at 3 = .ok (.invokevirtual 269, 3) := dk_182 1 13 (dk_at dksX0_at_0 3 rfl rfl)
theorem dX0_at_6 : decode cX0_at 6 = .ok (.ifCond .eq 19, 3) := dk_153 0 19 (dk_at dksX0_at_0 6 rfl rfl)
theorem dX0_at_9 : decode cX0_at 9 = .ok (.aload_n 0, 1) := dk_42 (dk_at dksX0_at_0 9 rfl rfl)
theorem dX0_at_10 : decode cX0_at 10 = .ok (.getfield 83, 3) := dk_180 0 83 (dk_at dksX0_at_0 10 rfl rfl)
theorem dX0_at_13 : decode cX0_at 13 = .ok (.getfield 273, 3) := dk_180 1 17 (dk_at dksX0_at_0 13 rfl rfl)
theorem dX0_at_16 : decode cX0_at 16 = .ok (.iconst 5, 1) := dk_8 (dk_at dksX0_at_0 16 rfl rfl)
theorem dX0_at_17 : decode cX0_at 17 = .ok (.iload_n 2, 1) := dk_28 (dk_at dksX0_at_0 17 rfl rfl)
theorem dX0_at_18 : decode cX0_at 18 = .ok (.imul, 1) := dk_104 (dk_at dksX0_at_0 18 rfl rfl)
theorem dX0_at_19 : decode cX0_at 19 = .ok (.iload_n 1, 1) := dk_27 (dk_at dksX0_at_0 19 rfl rfl)
theorem dX0_at_20 : decode cX0_at 20 = .ok (.iadd, 1) := dk_96 (dk_at dksX0_at_0 20 rfl rfl)
theorem dX0_at_21 : decode cX0_at 21 = .ok (.iaload, 1) := dk_46 (dk_at dksX0_at_0 21 rfl rfl)
theorem dX0_at_22 : decode cX0_at 22 = .ok (.goto 4, 3) := dk_167 0 4 (dk_at dksX0_at_1 0 rfl rfl)
theorem dX0_at_25 : decode cX0_at 25 = .ok (.iconst (-1), 1) := dk_2 (dk_at dksX0_at_1 3 rfl rfl)
theorem dX0_at_26 : decode cX0_at 26 = .ok (.ireturn, 1) := dk_172 (dk_at dksX0_at_1 4 rfl rfl)
abbrev cX0_isIn : ByteArray := prog_1_method_20_code
def yX0_isIn : MethodName := ⟨RX0, "isIn", "(II)Z"⟩
def dkwX0_isIn_1 : List UInt8 := [180, 0, 182, 4, 100, 184, 0, 178, 153, 0, 7, 4, 167, 0, 4, 3, 172]
abbrev dktX0_isIn_1 : List UInt8 := dkwX0_isIn_1 ++ []
def dkwX0_isIn_0 : List UInt8 := [27, 3, 42, 180, 0, 31, 180, 0, 159, 4, 100, 184, 0, 178, 153, 0, 24, 28, 3, 42, 180, 0, 31]
abbrev dktX0_isIn_0 : List UInt8 := dkwX0_isIn_0 ++ dktX0_isIn_1
theorem dksX0_isIn_0 : cX0_isIn.data.toList.drop 0 = dktX0_isIn_0 := by decide +kernel
theorem dksX0_isIn_1 : cX0_isIn.data.toList.drop 23 = dktX0_isIn_1 := dk_seg dksX0_isIn_0 23 rfl rfl
theorem dX0_isIn_0 : decode cX0_isIn 0 = .ok (.iload_n 1, 1) := dk_27 (dk_at dksX0_isIn_0 0 rfl rfl)
theorem dX0_isIn_1 : decode cX0_isIn 1 = .ok (.iconst 0, 1) := dk_3 (dk_at dksX0_isIn_0 1 rfl rfl)
theorem dX0_isIn_2 : decode cX0_isIn 2 = .ok (.aload_n 0, 1) := dk_42 (dk_at dksX0_isIn_0 2 rfl rfl)
theorem dX0_isIn_3 : decode cX0_isIn 3 = .ok (.getfield 31, 3) := dk_180 0 31 (dk_at dksX0_isIn_0 3 rfl rfl)
theorem dX0_isIn_6 : decode cX0_isIn 6 = .ok (.getfield 159, 3) := dk_180 0 159 (dk_at dksX0_isIn_0 6 rfl rfl)
theorem dX0_isIn_9 : decode cX0_isIn 9 = .ok (.iconst 1, 1) := dk_4 (dk_at dksX0_isIn_0 9 rfl rfl)
theorem dX0_isIn_10 : decode cX0_isIn 10 = .ok (.isub, 1) := dk_100 (dk_at dksX0_isIn_0 10 rfl rfl)
theorem dX0_isIn_11 : decode cX0_isIn 11 = .ok (.invokestatic 178, 3) := dk_184 0 178 (dk_at dksX0_isIn_0 11 rfl rfl)
theorem dX0_isIn_14 : decode cX0_isIn 14 = .ok (.ifCond .eq 24, 3) := dk_153 0 24 (dk_at dksX0_isIn_0 14 rfl rfl)
theorem dX0_isIn_17 : decode cX0_isIn 17 = .ok (.iload_n 2, 1) := dk_28 (dk_at dksX0_isIn_0 17 rfl rfl)
theorem dX0_isIn_18 : decode cX0_isIn 18 = .ok (.iconst 0, 1) := dk_3 (dk_at dksX0_isIn_0 18 rfl rfl)
theorem dX0_isIn_19 : decode cX0_isIn 19 = .ok (.aload_n 0, 1) := dk_42 (dk_at dksX0_isIn_0 19 rfl rfl)
theorem dX0_isIn_20 : decode cX0_isIn 20 = .ok (.getfield 31, 3) := dk_180 0 31 (dk_at dksX0_isIn_0 20 rfl rfl)
theorem dX0_isIn_23 : decode cX0_isIn 23 = .ok (.getfield 182, 3) := dk_180 0 182 (dk_at dksX0_isIn_1 0 rfl rfl)
theorem dX0_isIn_26 : decode cX0_isIn 26 = .ok (.iconst 1, 1) := dk_4 (dk_at dksX0_isIn_1 3 rfl rfl)
theorem dX0_isIn_27 : decode cX0_isIn 27 = .ok (.isub, 1) := dk_100 (dk_at dksX0_isIn_1 4 rfl rfl)
theorem dX0_isIn_28 : decode cX0_isIn 28 = .ok (.invokestatic 178, 3) := dk_184 0 178 (dk_at dksX0_isIn_1 5 rfl rfl)
theorem dX0_isIn_31 : decode cX0_isIn 31 = .ok (.ifCond .eq 7, 3) := dk_153 0 7 (dk_at dksX0_isIn_1 8 rfl rfl)
theorem dX0_isIn_34 : decode cX0_isIn 34 = .ok (.iconst 1, 1) := dk_4 (dk_at dksX0_isIn_1 11 rfl rfl)
theorem dX0_isIn_35 : decode cX0_isIn 35 = .ok (.goto 4, 3) := dk_167 0 4 (dk_at dksX0_isIn_1 12 rfl rfl)
theorem dX0_isIn_38 : decode cX0_isIn 38 = .ok (.iconst 0, 1) := dk_3 (dk_at dksX0_isIn_1 15 rfl rfl)
theorem dX0_isIn_39 : decode cX0_isIn 39 = .ok (.ireturn, 1) := dk_172 (dk_at dksX0_isIn_1 16 rfl rfl)
abbrev cX0_option : ByteArray := prog_1_method_31_code
def yX0_option : MethodName := ⟨RX0, "option", "(II)I"⟩
def dkwX0_option_6 : List UInt8 := [3, 172]
abbrev dktX0_option_6 : List UInt8 := dkwX0_option_6 ++ []
def dkwX0_option_5 : List UInt8 := [180, 1, 32, 27, 46, 29, 182, 1, 39, 87, 42, 180, 0, 87, 182, 1, 42, 153, 0, 7, 4, 167, 0, 4]
abbrev dktX0_option_5 : List UInt8 := dkwX0_option_5 ++ dktX0_option_6
def dkwX0_option_4 : List UInt8 := [180, 0, 83, 180, 1, 17, 29, 46, 172, 42, 180, 0, 87, 42, 180, 0, 83, 182, 1, 35, 42, 180, 0, 77]
abbrev dktX0_option_4 : List UInt8 := dkwX0_option_4 ++ dktX0_option_5
def dkwX0_option_3 : List UInt8 := [6, 160, 0, 32, 42, 180, 0, 83, 180, 1, 17, 29, 46, 2, 160, 0, 9, 17, 0, 255, 167, 0, 12, 42]
abbrev dktX0_option_3 : List UInt8 := dkwX0_option_3 ++ dktX0_option_4
def dkwX0_option_2 : List UInt8 := [180, 1, 32, 27, 46, 167, 0, 17, 28, 4, 160, 0, 9, 29, 8, 112, 167, 0, 6, 29, 8, 108, 172, 28]
abbrev dktX0_option_2 : List UInt8 := dkwX0_option_2 ++ dktX0_option_3
def dkwX0_option_1 : List UInt8 := [172, 42, 180, 0, 77, 180, 1, 31, 27, 46, 62, 28, 6, 162, 0, 34, 28, 154, 0, 15, 42, 180, 0, 77]
abbrev dktX0_option_1 : List UInt8 := dkwX0_option_1 ++ dktX0_option_2
def dkwX0_option_0 : List UInt8 := [27, 3, 42, 182, 1, 29, 4, 100, 184, 0, 178, 153, 0, 12, 28, 3, 7, 184, 0, 178, 154, 0, 5, 2]
abbrev dktX0_option_0 : List UInt8 := dkwX0_option_0 ++ dktX0_option_1
theorem dksX0_option_0 : cX0_option.data.toList.drop 0 = dktX0_option_0 := by decide +kernel
theorem dksX0_option_1 : cX0_option.data.toList.drop 24 = dktX0_option_1 := dk_seg dksX0_option_0 24 rfl rfl
theorem dksX0_option_2 : cX0_option.data.toList.drop 48 = dktX0_option_2 := dk_seg dksX0_option_1 24 rfl rfl
theorem dksX0_option_3 : cX0_option.data.toList.drop 72 = dktX0_option_3 := dk_seg dksX0_option_2 24 rfl rfl
theorem dksX0_option_4 : cX0_option.data.toList.drop 96 = dktX0_option_4 := dk_seg dksX0_option_3 24 rfl rfl
theorem dksX0_option_5 : cX0_option.data.toList.drop 120 = dktX0_option_5 := dk_seg dksX0_option_4 24 rfl rfl
theorem dksX0_option_6 : cX0_option.data.toList.drop 144 = dktX0_option_6 := dk_seg dksX0_option_5 24 rfl rfl
theorem dX0_option_0 : decode cX0_option 0 = .ok (.iload_n 1, 1) := dk_27 (dk_at dksX0_option_0 0 rfl rfl)
theorem dX0_option_1 : decode cX0_option 1 = .ok (.iconst 0, 1) := dk_3 (dk_at dksX0_option_0 1 rfl rfl)
theorem dX0_option_2 : decode cX0_option 2 = .ok (.aload_n 0, 1) := dk_42 (dk_at dksX0_option_0 2 rfl rfl)
theorem dX0_option_3 : decode cX0_option 3 = .ok (.invokevirtual 285, 3) := dk_182 1 29 (dk_at dksX0_option_0 3 rfl rfl)
theorem dX0_option_6 : decode cX0_option 6 = .ok (.iconst 1, 1) := dk_4 (dk_at dksX0_option_0 6 rfl rfl)
theorem dX0_option_7 : decode cX0_option 7 = .ok (.isub, 1) := dk_100 (dk_at dksX0_option_0 7 rfl rfl)
theorem dX0_option_8 : decode cX0_option 8 = .ok (.invokestatic 178, 3) := dk_184 0 178 (dk_at dksX0_option_0 8 rfl rfl)
theorem dX0_option_11 : decode cX0_option 11 = .ok (.ifCond .eq 12, 3) := dk_153 0 12 (dk_at dksX0_option_0 11 rfl rfl)
theorem dX0_option_14 : decode cX0_option 14 = .ok (.iload_n 2, 1) := dk_28 (dk_at dksX0_option_0 14 rfl rfl)
theorem dX0_option_15 : decode cX0_option 15 = .ok (.iconst 0, 1) := dk_3 (dk_at dksX0_option_0 15 rfl rfl)
theorem dX0_option_16 : decode cX0_option 16 = .ok (.iconst 4, 1) := dk_7 (dk_at dksX0_option_0 16 rfl rfl)
theorem dX0_option_17 : decode cX0_option 17 = .ok (.invokestatic 178, 3) := dk_184 0 178 (dk_at dksX0_option_0 17 rfl rfl)
theorem dX0_option_20 : decode cX0_option 20 = .ok (.ifCond .ne 5, 3) := dk_154 0 5 (dk_at dksX0_option_0 20 rfl rfl)
theorem dX0_option_23 : decode cX0_option 23 = .ok (.iconst (-1), 1) := dk_2 (dk_at dksX0_option_0 23 rfl rfl)
theorem dX0_option_24 : decode cX0_option 24 = .ok (.ireturn, 1) := dk_172 (dk_at dksX0_option_1 0 rfl rfl)
theorem dX0_option_25 : decode cX0_option 25 = .ok (.aload_n 0, 1) := dk_42 (dk_at dksX0_option_1 1 rfl rfl)
theorem dX0_option_26 : decode cX0_option 26 = .ok (.getfield 77, 3) := dk_180 0 77 (dk_at dksX0_option_1 2 rfl rfl)
theorem dX0_option_29 : decode cX0_option 29 = .ok (.getfield 287, 3) := dk_180 1 31 (dk_at dksX0_option_1 5 rfl rfl)
theorem dX0_option_32 : decode cX0_option 32 = .ok (.iload_n 1, 1) := dk_27 (dk_at dksX0_option_1 8 rfl rfl)
theorem dX0_option_33 : decode cX0_option 33 = .ok (.iaload, 1) := dk_46 (dk_at dksX0_option_1 9 rfl rfl)
theorem dX0_option_34 : decode cX0_option 34 = .ok (.istore_n 3, 1) := dk_62 (dk_at dksX0_option_1 10 rfl rfl)
theorem dX0_option_35 : decode cX0_option 35 = .ok (.iload_n 2, 1) := dk_28 (dk_at dksX0_option_1 11 rfl rfl)
theorem dX0_option_36 : decode cX0_option 36 = .ok (.iconst 3, 1) := dk_6 (dk_at dksX0_option_1 12 rfl rfl)
theorem dX0_option_37 : decode cX0_option 37 = .ok (.if_icmp .ge 34, 3) := dk_162 0 34 (dk_at dksX0_option_1 13 rfl rfl)
theorem dX0_option_40 : decode cX0_option 40 = .ok (.iload_n 2, 1) := dk_28 (dk_at dksX0_option_1 16 rfl rfl)
theorem dX0_option_41 : decode cX0_option 41 = .ok (.ifCond .ne 15, 3) := dk_154 0 15 (dk_at dksX0_option_1 17 rfl rfl)
theorem dX0_option_44 : decode cX0_option 44 = .ok (.aload_n 0, 1) := dk_42 (dk_at dksX0_option_1 20 rfl rfl)
theorem dX0_option_45 : decode cX0_option 45 = .ok (.getfield 77, 3) := dk_180 0 77 (dk_at dksX0_option_1 21 rfl rfl)
theorem dX0_option_48 : decode cX0_option 48 = .ok (.getfield 288, 3) := dk_180 1 32 (dk_at dksX0_option_2 0 rfl rfl)
theorem dX0_option_51 : decode cX0_option 51 = .ok (.iload_n 1, 1) := dk_27 (dk_at dksX0_option_2 3 rfl rfl)
theorem dX0_option_52 : decode cX0_option 52 = .ok (.iaload, 1) := dk_46 (dk_at dksX0_option_2 4 rfl rfl)
theorem dX0_option_53 : decode cX0_option 53 = .ok (.goto 17, 3) := dk_167 0 17 (dk_at dksX0_option_2 5 rfl rfl)
theorem dX0_option_56 : decode cX0_option 56 = .ok (.iload_n 2, 1) := dk_28 (dk_at dksX0_option_2 8 rfl rfl)
theorem dX0_option_57 : decode cX0_option 57 = .ok (.iconst 1, 1) := dk_4 (dk_at dksX0_option_2 9 rfl rfl)
theorem dX0_option_58 : decode cX0_option 58 = .ok (.if_icmp .ne 9, 3) := dk_160 0 9 (dk_at dksX0_option_2 10 rfl rfl)
theorem dX0_option_61 : decode cX0_option 61 = .ok (.iload_n 3, 1) := dk_29 (dk_at dksX0_option_2 13 rfl rfl)
theorem dX0_option_62 : decode cX0_option 62 = .ok (.iconst 5, 1) := dk_8 (dk_at dksX0_option_2 14 rfl rfl)
theorem dX0_option_63 : decode cX0_option 63 = .ok (.irem, 1) := dk_112 (dk_at dksX0_option_2 15 rfl rfl)
theorem dX0_option_64 : decode cX0_option 64 = .ok (.goto 6, 3) := dk_167 0 6 (dk_at dksX0_option_2 16 rfl rfl)
theorem dX0_option_67 : decode cX0_option 67 = .ok (.iload_n 3, 1) := dk_29 (dk_at dksX0_option_2 19 rfl rfl)
theorem dX0_option_68 : decode cX0_option 68 = .ok (.iconst 5, 1) := dk_8 (dk_at dksX0_option_2 20 rfl rfl)
theorem dX0_option_69 : decode cX0_option 69 = .ok (.idiv, 1) := dk_108 (dk_at dksX0_option_2 21 rfl rfl)
theorem dX0_option_70 : decode cX0_option 70 = .ok (.ireturn, 1) := dk_172 (dk_at dksX0_option_2 22 rfl rfl)
theorem dX0_option_71 : decode cX0_option 71 = .ok (.iload_n 2, 1) := dk_28 (dk_at dksX0_option_2 23 rfl rfl)
theorem dX0_option_72 : decode cX0_option 72 = .ok (.iconst 3, 1) := dk_6 (dk_at dksX0_option_3 0 rfl rfl)
theorem dX0_option_73 : decode cX0_option 73 = .ok (.if_icmp .ne 32, 3) := dk_160 0 32 (dk_at dksX0_option_3 1 rfl rfl)
theorem dX0_option_76 : decode cX0_option 76 = .ok (.aload_n 0, 1) := dk_42 (dk_at dksX0_option_3 4 rfl rfl)
theorem dX0_option_77 : decode cX0_option 77 = .ok (.getfield 83, 3) := dk_180 0 83 (dk_at dksX0_option_3 5 rfl rfl)
theorem dX0_option_80 : decode cX0_option 80 = .ok (.getfield 273, 3) := dk_180 1 17 (dk_at dksX0_option_3 8 rfl rfl)
theorem dX0_option_83 : decode cX0_option 83 = .ok (.iload_n 3, 1) := dk_29 (dk_at dksX0_option_3 11 rfl rfl)
theorem dX0_option_84 : decode cX0_option 84 = .ok (.iaload, 1) := dk_46 (dk_at dksX0_option_3 12 rfl rfl)
theorem dX0_option_85 : decode cX0_option 85 = .ok (.iconst (-1), 1) := dk_2 (dk_at dksX0_option_3 13 rfl rfl)
theorem dX0_option_86 : decode cX0_option 86 = .ok (.if_icmp .ne 9, 3) := dk_160 0 9 (dk_at dksX0_option_3 14 rfl rfl)
theorem dX0_option_89 : decode cX0_option 89 = .ok (.sipush 255, 3) := dk_17 0 255 (dk_at dksX0_option_3 17 rfl rfl)
theorem dX0_option_92 : decode cX0_option 92 = .ok (.goto 12, 3) := dk_167 0 12 (dk_at dksX0_option_3 20 rfl rfl)
theorem dX0_option_95 : decode cX0_option 95 = .ok (.aload_n 0, 1) := dk_42 (dk_at dksX0_option_3 23 rfl rfl)
theorem dX0_option_96 : decode cX0_option 96 = .ok (.getfield 83, 3) := dk_180 0 83 (dk_at dksX0_option_4 0 rfl rfl)
theorem dX0_option_99 : decode cX0_option 99 = .ok (.getfield 273, 3) := dk_180 1 17 (dk_at dksX0_option_4 3 rfl rfl)
theorem dX0_option_102 : decode cX0_option 102 = .ok (.iload_n 3, 1) := dk_29 (dk_at dksX0_option_4 6 rfl rfl)
theorem dX0_option_103 : decode cX0_option 103 = .ok (.iaload, 1) := dk_46 (dk_at dksX0_option_4 7 rfl rfl)
theorem dX0_option_104 : decode cX0_option 104 = .ok (.ireturn, 1) := dk_172 (dk_at dksX0_option_4 8 rfl rfl)
theorem dX0_option_105 : decode cX0_option 105 = .ok (.aload_n 0, 1) := dk_42 (dk_at dksX0_option_4 9 rfl rfl)
theorem dX0_option_106 : decode cX0_option 106 = .ok (.getfield 87, 3) := dk_180 0 87 (dk_at dksX0_option_4 10 rfl rfl)
theorem dX0_option_109 : decode cX0_option 109 = .ok (.aload_n 0, 1) := dk_42 (dk_at dksX0_option_4 13 rfl rfl)
theorem dX0_option_110 : decode cX0_option 110 = .ok (.getfield 83, 3) := dk_180 0 83 (dk_at dksX0_option_4 14 rfl rfl)
theorem dX0_option_113 : decode cX0_option 113 = .ok (.invokevirtual 291, 3) := dk_182 1 35 (dk_at dksX0_option_4 17 rfl rfl)
theorem dX0_option_116 : decode cX0_option 116 = .ok (.aload_n 0, 1) := dk_42 (dk_at dksX0_option_4 20 rfl rfl)
theorem dX0_option_117 : decode cX0_option 117 = .ok (.getfield 77, 3) := dk_180 0 77 (dk_at dksX0_option_4 21 rfl rfl)
theorem dX0_option_120 : decode cX0_option 120 = .ok (.getfield 288, 3) := dk_180 1 32 (dk_at dksX0_option_5 0 rfl rfl)
theorem dX0_option_123 : decode cX0_option 123 = .ok (.iload_n 1, 1) := dk_27 (dk_at dksX0_option_5 3 rfl rfl)
theorem dX0_option_124 : decode cX0_option 124 = .ok (.iaload, 1) := dk_46 (dk_at dksX0_option_5 4 rfl rfl)
theorem dX0_option_125 : decode cX0_option 125 = .ok (.iload_n 3, 1) := dk_29 (dk_at dksX0_option_5 5 rfl rfl)
theorem dX0_option_126 : decode cX0_option 126 = .ok (.invokevirtual 295, 3) := dk_182 1 39 (dk_at dksX0_option_5 6 rfl rfl)
theorem dX0_option_129 : decode cX0_option 129 = .ok (.pop, 1) := dk_87 (dk_at dksX0_option_5 9 rfl rfl)
theorem dX0_option_130 : decode cX0_option 130 = .ok (.aload_n 0, 1) := dk_42 (dk_at dksX0_option_5 10 rfl rfl)
theorem dX0_option_131 : decode cX0_option 131 = .ok (.getfield 87, 3) := dk_180 0 87 (dk_at dksX0_option_5 11 rfl rfl)
theorem dX0_option_134 : decode cX0_option 134 = .ok (.invokevirtual 298, 3) := dk_182 1 42 (dk_at dksX0_option_5 14 rfl rfl)
theorem dX0_option_137 : decode cX0_option 137 = .ok (.ifCond .eq 7, 3) := dk_153 0 7 (dk_at dksX0_option_5 17 rfl rfl)
theorem dX0_option_140 : decode cX0_option 140 = .ok (.iconst 1, 1) := dk_4 (dk_at dksX0_option_5 20 rfl rfl)
theorem dX0_option_141 : decode cX0_option 141 = .ok (.goto 4, 3) := dk_167 0 4 (dk_at dksX0_option_5 21 rfl rfl)
theorem dX0_option_144 : decode cX0_option 144 = .ok (.iconst 0, 1) := dk_3 (dk_at dksX0_option_6 0 rfl rfl)
theorem dX0_option_145 : decode cX0_option 145 = .ok (.ireturn, 1) := dk_172 (dk_at dksX0_option_6 1 rfl rfl)
abbrev cX0_finds : ByteArray := prog_1_method_30_code
def yX0_finds : MethodName := ⟨RX0, "finds", "()I"⟩
def dkwX0_finds_2 : List UInt8 := [180, 0, 77, 180, 1, 20, 172]
abbrev dktX0_finds_2 : List UInt8 := dkwX0_finds_2 ++ []
def dkwX0_finds_1 : List UInt8 := [154, 0, 21, 42, 180, 0, 83, 42, 180, 0, 83, 180, 0, 208, 42, 180, 0, 77, 182, 1, 25, 42]
abbrev dktX0_finds_1 : List UInt8 := dkwX0_finds_1 ++ dktX0_finds_2
def dkwX0_finds_0 : List UInt8 := [42, 180, 0, 77, 3, 181, 1, 20, 42, 182, 0, 211, 153, 0, 31, 42, 180, 0, 83, 180, 1, 22]
abbrev dktX0_finds_0 : List UInt8 := dkwX0_finds_0 ++ dktX0_finds_1
theorem dksX0_finds_0 : cX0_finds.data.toList.drop 0 = dktX0_finds_0 := by decide +kernel
theorem dksX0_finds_1 : cX0_finds.data.toList.drop 22 = dktX0_finds_1 := dk_seg dksX0_finds_0 22 rfl rfl
theorem dksX0_finds_2 : cX0_finds.data.toList.drop 44 = dktX0_finds_2 := dk_seg dksX0_finds_1 22 rfl rfl
theorem dX0_finds_0 : decode cX0_finds 0 = .ok (.aload_n 0, 1) := dk_42 (dk_at dksX0_finds_0 0 rfl rfl)
theorem dX0_finds_1 : decode cX0_finds 1 = .ok (.getfield 77, 3) := dk_180 0 77 (dk_at dksX0_finds_0 1 rfl rfl)
theorem dX0_finds_4 : decode cX0_finds 4 = .ok (.iconst 0, 1) := dk_3 (dk_at dksX0_finds_0 4 rfl rfl)
theorem dX0_finds_5 : decode cX0_finds 5 = .ok (.putfield 276, 3) := dk_181 1 20 (dk_at dksX0_finds_0 5 rfl rfl)
theorem dX0_finds_8 : decode cX0_finds 8 = .ok (.aload_n 0, 1) := dk_42 (dk_at dksX0_finds_0 8 rfl rfl)
theorem dX0_finds_9 : decode cX0_finds 9 = .ok (.invokevirtual 211, 3) := dk_182 0 211 (dk_at dksX0_finds_0 9 rfl rfl)
theorem dX0_finds_12 : decode cX0_finds 12 = .ok (.ifCond .eq 31, 3) := dk_153 0 31 (dk_at dksX0_finds_0 12 rfl rfl)
theorem dX0_finds_15 : decode cX0_finds 15 = .ok (.aload_n 0, 1) := dk_42 (dk_at dksX0_finds_0 15 rfl rfl)
theorem dX0_finds_16 : decode cX0_finds 16 = .ok (.getfield 83, 3) := dk_180 0 83 (dk_at dksX0_finds_0 16 rfl rfl)
theorem dX0_finds_19 : decode cX0_finds 19 = .ok (.getfield 278, 3) := dk_180 1 22 (dk_at dksX0_finds_0 19 rfl rfl)
theorem dX0_finds_22 : decode cX0_finds 22 = .ok (.ifCond .ne 21, 3) := dk_154 0 21 (dk_at dksX0_finds_1 0 rfl rfl)
theorem dX0_finds_25 : decode cX0_finds 25 = .ok (.aload_n 0, 1) := dk_42 (dk_at dksX0_finds_1 3 rfl rfl)
theorem dX0_finds_26 : decode cX0_finds 26 = .ok (.getfield 83, 3) := dk_180 0 83 (dk_at dksX0_finds_1 4 rfl rfl)
theorem dX0_finds_29 : decode cX0_finds 29 = .ok (.aload_n 0, 1) := dk_42 (dk_at dksX0_finds_1 7 rfl rfl)
theorem dX0_finds_30 : decode cX0_finds 30 = .ok (.getfield 83, 3) := dk_180 0 83 (dk_at dksX0_finds_1 8 rfl rfl)
theorem dX0_finds_33 : decode cX0_finds 33 = .ok (.getfield 208, 3) := dk_180 0 208 (dk_at dksX0_finds_1 11 rfl rfl)
theorem dX0_finds_36 : decode cX0_finds 36 = .ok (.aload_n 0, 1) := dk_42 (dk_at dksX0_finds_1 14 rfl rfl)
theorem dX0_finds_37 : decode cX0_finds 37 = .ok (.getfield 77, 3) := dk_180 0 77 (dk_at dksX0_finds_1 15 rfl rfl)
theorem dX0_finds_40 : decode cX0_finds 40 = .ok (.invokevirtual 281, 3) := dk_182 1 25 (dk_at dksX0_finds_1 18 rfl rfl)
theorem dX0_finds_43 : decode cX0_finds 43 = .ok (.aload_n 0, 1) := dk_42 (dk_at dksX0_finds_1 21 rfl rfl)
theorem dX0_finds_44 : decode cX0_finds 44 = .ok (.getfield 77, 3) := dk_180 0 77 (dk_at dksX0_finds_2 0 rfl rfl)
theorem dX0_finds_47 : decode cX0_finds 47 = .ok (.getfield 276, 3) := dk_180 1 20 (dk_at dksX0_finds_2 3 rfl rfl)
theorem dX0_finds_50 : decode cX0_finds 50 = .ok (.ireturn, 1) := dk_172 (dk_at dksX0_finds_2 6 rfl rfl)
abbrev cX0_kept : ByteArray := prog_1_method_32_code
def yX0_kept : MethodName := ⟨RX0, "kept", "(II)I"⟩
def dkwX0_kept_1 : List UInt8 := [153, 0, 17, 42, 180, 0, 83, 180, 1, 45, 27, 50, 28, 46, 167, 0, 4, 2, 172]
abbrev dktX0_kept_1 : List UInt8 := dkwX0_kept_1 ++ []
def dkwX0_kept_0 : List UInt8 := [27, 3, 42, 180, 0, 83, 180, 0, 224, 4, 100, 184, 0, 178, 153, 0, 26, 28, 3, 7, 184, 0, 178]
abbrev dktX0_kept_0 : List UInt8 := dkwX0_kept_0 ++ dktX0_kept_1
theorem dksX0_kept_0 : cX0_kept.data.toList.drop 0 = dktX0_kept_0 := by decide +kernel
theorem dksX0_kept_1 : cX0_kept.data.toList.drop 23 = dktX0_kept_1 := dk_seg dksX0_kept_0 23 rfl rfl
theorem dX0_kept_0 : decode cX0_kept 0 = .ok (.iload_n 1, 1) := dk_27 (dk_at dksX0_kept_0 0 rfl rfl)
theorem dX0_kept_1 : decode cX0_kept 1 = .ok (.iconst 0, 1) := dk_3 (dk_at dksX0_kept_0 1 rfl rfl)
theorem dX0_kept_2 : decode cX0_kept 2 = .ok (.aload_n 0, 1) := dk_42 (dk_at dksX0_kept_0 2 rfl rfl)
theorem dX0_kept_3 : decode cX0_kept 3 = .ok (.getfield 83, 3) := dk_180 0 83 (dk_at dksX0_kept_0 3 rfl rfl)
theorem dX0_kept_6 : decode cX0_kept 6 = .ok (.getfield 224, 3) := dk_180 0 224 (dk_at dksX0_kept_0 6 rfl rfl)
theorem dX0_kept_9 : decode cX0_kept 9 = .ok (.iconst 1, 1) := dk_4 (dk_at dksX0_kept_0 9 rfl rfl)
theorem dX0_kept_10 : decode cX0_kept 10 = .ok (.isub, 1) := dk_100 (dk_at dksX0_kept_0 10 rfl rfl)
theorem dX0_kept_11 : decode cX0_kept 11 = .ok (.invokestatic 178, 3) := dk_184 0 178 (dk_at dksX0_kept_0 11 rfl rfl)
theorem dX0_kept_14 : decode cX0_kept 14 = .ok (.ifCond .eq 26, 3) := dk_153 0 26 (dk_at dksX0_kept_0 14 rfl rfl)
theorem dX0_kept_17 : decode cX0_kept 17 = .ok (.iload_n 2, 1) := dk_28 (dk_at dksX0_kept_0 17 rfl rfl)
theorem dX0_kept_18 : decode cX0_kept 18 = .ok (.iconst 0, 1) := dk_3 (dk_at dksX0_kept_0 18 rfl rfl)
theorem dX0_kept_19 : decode cX0_kept 19 = .ok (.iconst 4, 1) := dk_7 (dk_at dksX0_kept_0 19 rfl rfl)
theorem dX0_kept_20 : decode cX0_kept 20 = .ok (.invokestatic 178, 3) := dk_184 0 178 (dk_at dksX0_kept_0 20 rfl rfl)
theorem dX0_kept_23 : decode cX0_kept 23 = .ok (.ifCond .eq 17, 3) := dk_153 0 17 (dk_at dksX0_kept_1 0 rfl rfl)
theorem dX0_kept_26 : decode cX0_kept 26 = .ok (.aload_n 0, 1) := dk_42 (dk_at dksX0_kept_1 3 rfl rfl)
theorem dX0_kept_27 : decode cX0_kept 27 = .ok (.getfield 83, 3) := dk_180 0 83 (dk_at dksX0_kept_1 4 rfl rfl)
theorem dX0_kept_30 : decode cX0_kept 30 = .ok (.getfield 301, 3) := dk_180 1 45 (dk_at dksX0_kept_1 7 rfl rfl)
theorem dX0_kept_33 : decode cX0_kept 33 = .ok (.iload_n 1, 1) := dk_27 (dk_at dksX0_kept_1 10 rfl rfl)
theorem dX0_kept_34 : decode cX0_kept 34 = .ok (.aaload, 1) := dk_50 (dk_at dksX0_kept_1 11 rfl rfl)
theorem dX0_kept_35 : decode cX0_kept 35 = .ok (.iload_n 2, 1) := dk_28 (dk_at dksX0_kept_1 12 rfl rfl)
theorem dX0_kept_36 : decode cX0_kept 36 = .ok (.iaload, 1) := dk_46 (dk_at dksX0_kept_1 13 rfl rfl)
theorem dX0_kept_37 : decode cX0_kept 37 = .ok (.goto 4, 3) := dk_167 0 4 (dk_at dksX0_kept_1 14 rfl rfl)
theorem dX0_kept_40 : decode cX0_kept 40 = .ok (.iconst (-1), 1) := dk_2 (dk_at dksX0_kept_1 17 rfl rfl)
theorem dX0_kept_41 : decode cX0_kept 41 = .ok (.ireturn, 1) := dk_172 (dk_at dksX0_kept_1 18 rfl rfl)
abbrev cX0_balance : ByteArray := prog_1_method_33_code
def yX0_balance : MethodName := ⟨RX0, "balance", "(I)J"⟩
def dkwX0_balance_1 : List UInt8 := [133, 167, 0, 6, 20, 1, 51, 173]
abbrev dktX0_balance_1 : List UInt8 := dkwX0_balance_1 ++ []
def dkwX0_balance_0 : List UInt8 := [42, 182, 0, 211, 153, 0, 24, 27, 3, 4, 184, 0, 178, 153, 0, 15, 42, 180, 0, 83, 27, 182, 1, 48]
abbrev dktX0_balance_0 : List UInt8 := dkwX0_balance_0 ++ dktX0_balance_1
theorem dksX0_balance_0 : cX0_balance.data.toList.drop 0 = dktX0_balance_0 := by decide +kernel
theorem dksX0_balance_1 : cX0_balance.data.toList.drop 24 = dktX0_balance_1 := dk_seg dksX0_balance_0 24 rfl rfl
theorem dX0_balance_0 : decode cX0_balance 0 = .ok (.aload_n 0, 1) := dk_42 (dk_at dksX0_balance_0 0 rfl rfl)
theorem dX0_balance_1 : decode cX0_balance 1 = .ok (.invokevirtual 211, 3) := dk_182 0 211 (dk_at dksX0_balance_0 1 rfl rfl)
theorem dX0_balance_4 : decode cX0_balance 4 = .ok (.ifCond .eq 24, 3) := dk_153 0 24 (dk_at dksX0_balance_0 4 rfl rfl)
theorem dX0_balance_7 : decode cX0_balance 7 = .ok (.iload_n 1, 1) := dk_27 (dk_at dksX0_balance_0 7 rfl rfl)
theorem dX0_balance_8 : decode cX0_balance 8 = .ok (.iconst 0, 1) := dk_3 (dk_at dksX0_balance_0 8 rfl rfl)
theorem dX0_balance_9 : decode cX0_balance 9 = .ok (.iconst 1, 1) := dk_4 (dk_at dksX0_balance_0 9 rfl rfl)
theorem dX0_balance_10 : decode cX0_balance 10 = .ok (.invokestatic 178, 3) := dk_184 0 178 (dk_at dksX0_balance_0 10 rfl rfl)
theorem dX0_balance_13 : decode cX0_balance 13 = .ok (.ifCond .eq 15, 3) := dk_153 0 15 (dk_at dksX0_balance_0 13 rfl rfl)
theorem dX0_balance_16 : decode cX0_balance 16 = .ok (.aload_n 0, 1) := dk_42 (dk_at dksX0_balance_0 16 rfl rfl)
theorem dX0_balance_17 : decode cX0_balance 17 = .ok (.getfield 83, 3) := dk_180 0 83 (dk_at dksX0_balance_0 17 rfl rfl)
theorem dX0_balance_20 : decode cX0_balance 20 = .ok (.iload_n 1, 1) := dk_27 (dk_at dksX0_balance_0 20 rfl rfl)
theorem dX0_balance_21 : decode cX0_balance 21 = .ok (.invokevirtual 304, 3) := dk_182 1 48 (dk_at dksX0_balance_0 21 rfl rfl)
theorem dX0_balance_24 : decode cX0_balance 24 = .ok (.i2l, 1) := dk_133 (dk_at dksX0_balance_1 0 rfl rfl)
theorem dX0_balance_25 : decode cX0_balance 25 = .ok (.goto 6, 3) := dk_167 0 6 (dk_at dksX0_balance_1 1 rfl rfl)
theorem dX0_balance_28 : decode cX0_balance 28 = .ok (.ldc2_w 307, 3) := dk_20 1 51 (dk_at dksX0_balance_1 4 rfl rfl)
theorem dX0_balance_31 : decode cX0_balance 31 = .ok (.lreturn, 1) := dk_173 (dk_at dksX0_balance_1 7 rfl rfl)
abbrev cX0_value : ByteArray := prog_1_method_34_code
def yX0_value : MethodName := ⟨RX0, "value", "(I)J"⟩
def dkwX0_value_1 : List UInt8 := [182, 1, 35, 27, 182, 1, 53, 133, 167, 0, 6, 20, 1, 51, 173]
abbrev dktX0_value_1 : List UInt8 := dkwX0_value_1 ++ []
def dkwX0_value_0 : List UInt8 := [42, 182, 0, 211, 153, 0, 31, 27, 3, 6, 184, 0, 178, 153, 0, 22, 42, 180, 0, 87, 42, 180, 0, 83]
abbrev dktX0_value_0 : List UInt8 := dkwX0_value_0 ++ dktX0_value_1
theorem dksX0_value_0 : cX0_value.data.toList.drop 0 = dktX0_value_0 := by decide +kernel
theorem dksX0_value_1 : cX0_value.data.toList.drop 24 = dktX0_value_1 := dk_seg dksX0_value_0 24 rfl rfl
theorem dX0_value_0 : decode cX0_value 0 = .ok (.aload_n 0, 1) := dk_42 (dk_at dksX0_value_0 0 rfl rfl)
theorem dX0_value_1 : decode cX0_value 1 = .ok (.invokevirtual 211, 3) := dk_182 0 211 (dk_at dksX0_value_0 1 rfl rfl)
theorem dX0_value_4 : decode cX0_value 4 = .ok (.ifCond .eq 31, 3) := dk_153 0 31 (dk_at dksX0_value_0 4 rfl rfl)
theorem dX0_value_7 : decode cX0_value 7 = .ok (.iload_n 1, 1) := dk_27 (dk_at dksX0_value_0 7 rfl rfl)
theorem dX0_value_8 : decode cX0_value 8 = .ok (.iconst 0, 1) := dk_3 (dk_at dksX0_value_0 8 rfl rfl)
theorem dX0_value_9 : decode cX0_value 9 = .ok (.iconst 3, 1) := dk_6 (dk_at dksX0_value_0 9 rfl rfl)
theorem dX0_value_10 : decode cX0_value 10 = .ok (.invokestatic 178, 3) := dk_184 0 178 (dk_at dksX0_value_0 10 rfl rfl)
theorem dX0_value_13 : decode cX0_value 13 = .ok (.ifCond .eq 22, 3) := dk_153 0 22 (dk_at dksX0_value_0 13 rfl rfl)
theorem dX0_value_16 : decode cX0_value 16 = .ok (.aload_n 0, 1) := dk_42 (dk_at dksX0_value_0 16 rfl rfl)
theorem dX0_value_17 : decode cX0_value 17 = .ok (.getfield 87, 3) := dk_180 0 87 (dk_at dksX0_value_0 17 rfl rfl)
theorem dX0_value_20 : decode cX0_value 20 = .ok (.aload_n 0, 1) := dk_42 (dk_at dksX0_value_0 20 rfl rfl)
theorem dX0_value_21 : decode cX0_value 21 = .ok (.getfield 83, 3) := dk_180 0 83 (dk_at dksX0_value_0 21 rfl rfl)
theorem dX0_value_24 : decode cX0_value 24 = .ok (.invokevirtual 291, 3) := dk_182 1 35 (dk_at dksX0_value_1 0 rfl rfl)
theorem dX0_value_27 : decode cX0_value 27 = .ok (.iload_n 1, 1) := dk_27 (dk_at dksX0_value_1 3 rfl rfl)
theorem dX0_value_28 : decode cX0_value 28 = .ok (.invokevirtual 309, 3) := dk_182 1 53 (dk_at dksX0_value_1 4 rfl rfl)
theorem dX0_value_31 : decode cX0_value 31 = .ok (.i2l, 1) := dk_133 (dk_at dksX0_value_1 7 rfl rfl)
theorem dX0_value_32 : decode cX0_value 32 = .ok (.goto 6, 3) := dk_167 0 6 (dk_at dksX0_value_1 8 rfl rfl)
theorem dX0_value_35 : decode cX0_value 35 = .ok (.ldc2_w 307, 3) := dk_20 1 51 (dk_at dksX0_value_1 11 rfl rfl)
theorem dX0_value_38 : decode cX0_value 38 = .ok (.lreturn, 1) := dk_173 (dk_at dksX0_value_1 14 rfl rfl)
abbrev cX0_best : ByteArray := prog_1_method_35_code
def yX0_best : MethodName := ⟨RX0, "best", "(I)I"⟩
def dkwX0_best_1 : List UInt8 := [182, 1, 35, 27, 182, 1, 56, 167, 0, 4, 2, 172]
abbrev dktX0_best_1 : List UInt8 := dkwX0_best_1 ++ []
def dkwX0_best_0 : List UInt8 := [42, 182, 0, 211, 153, 0, 30, 27, 4, 6, 184, 0, 178, 153, 0, 21, 42, 180, 0, 87, 42, 180, 0, 83]
abbrev dktX0_best_0 : List UInt8 := dkwX0_best_0 ++ dktX0_best_1
theorem dksX0_best_0 : cX0_best.data.toList.drop 0 = dktX0_best_0 := by decide +kernel
theorem dksX0_best_1 : cX0_best.data.toList.drop 24 = dktX0_best_1 := dk_seg dksX0_best_0 24 rfl rfl
theorem dX0_best_0 : decode cX0_best 0 = .ok (.aload_n 0, 1) := dk_42 (dk_at dksX0_best_0 0 rfl rfl)
theorem dX0_best_1 : decode cX0_best 1 = .ok (.invokevirtual 211, 3) := dk_182 0 211 (dk_at dksX0_best_0 1 rfl rfl)
theorem dX0_best_4 : decode cX0_best 4 = .ok (.ifCond .eq 30, 3) := dk_153 0 30 (dk_at dksX0_best_0 4 rfl rfl)
theorem dX0_best_7 : decode cX0_best 7 = .ok (.iload_n 1, 1) := dk_27 (dk_at dksX0_best_0 7 rfl rfl)
theorem dX0_best_8 : decode cX0_best 8 = .ok (.iconst 1, 1) := dk_4 (dk_at dksX0_best_0 8 rfl rfl)
theorem dX0_best_9 : decode cX0_best 9 = .ok (.iconst 3, 1) := dk_6 (dk_at dksX0_best_0 9 rfl rfl)
theorem dX0_best_10 : decode cX0_best 10 = .ok (.invokestatic 178, 3) := dk_184 0 178 (dk_at dksX0_best_0 10 rfl rfl)
theorem dX0_best_13 : decode cX0_best 13 = .ok (.ifCond .eq 21, 3) := dk_153 0 21 (dk_at dksX0_best_0 13 rfl rfl)
theorem dX0_best_16 : decode cX0_best 16 = .ok (.aload_n 0, 1) := dk_42 (dk_at dksX0_best_0 16 rfl rfl)
theorem dX0_best_17 : decode cX0_best 17 = .ok (.getfield 87, 3) := dk_180 0 87 (dk_at dksX0_best_0 17 rfl rfl)
theorem dX0_best_20 : decode cX0_best 20 = .ok (.aload_n 0, 1) := dk_42 (dk_at dksX0_best_0 20 rfl rfl)
theorem dX0_best_21 : decode cX0_best 21 = .ok (.getfield 83, 3) := dk_180 0 83 (dk_at dksX0_best_0 21 rfl rfl)
theorem dX0_best_24 : decode cX0_best 24 = .ok (.invokevirtual 291, 3) := dk_182 1 35 (dk_at dksX0_best_1 0 rfl rfl)
theorem dX0_best_27 : decode cX0_best 27 = .ok (.iload_n 1, 1) := dk_27 (dk_at dksX0_best_1 3 rfl rfl)
theorem dX0_best_28 : decode cX0_best 28 = .ok (.invokevirtual 312, 3) := dk_182 1 56 (dk_at dksX0_best_1 4 rfl rfl)
theorem dX0_best_31 : decode cX0_best 31 = .ok (.goto 4, 3) := dk_167 0 4 (dk_at dksX0_best_1 7 rfl rfl)
theorem dX0_best_34 : decode cX0_best 34 = .ok (.iconst (-1), 1) := dk_2 (dk_at dksX0_best_1 10 rfl rfl)
theorem dX0_best_35 : decode cX0_best 35 = .ok (.ireturn, 1) := dk_172 (dk_at dksX0_best_1 11 rfl rfl)
abbrev cX0_forced : ByteArray := prog_1_method_38_code
def yX0_forced : MethodName := ⟨RX0, "forced", "()I"⟩
def dkwX0_forced_2 : List UInt8 := [153, 0, 5, 5, 172, 132, 1, 1, 167, 255, 232, 2, 172]
abbrev dktX0_forced_2 : List UInt8 := dkwX0_forced_2 ++ []
def dkwX0_forced_1 : List UInt8 := [153, 0, 5, 4, 172, 3, 60, 27, 42, 180, 0, 77, 180, 1, 20, 162, 0, 19, 42, 27, 182, 1, 71]
abbrev dktX0_forced_1 : List UInt8 := dkwX0_forced_1 ++ dktX0_forced_2
def dkwX0_forced_0 : List UInt8 := [42, 182, 1, 29, 154, 0, 5, 2, 172, 42, 42, 180, 0, 83, 42, 180, 0, 68, 3, 50, 182, 1, 63]
abbrev dktX0_forced_0 : List UInt8 := dkwX0_forced_0 ++ dktX0_forced_1
theorem dksX0_forced_0 : cX0_forced.data.toList.drop 0 = dktX0_forced_0 := by decide +kernel
theorem dksX0_forced_1 : cX0_forced.data.toList.drop 23 = dktX0_forced_1 := dk_seg dksX0_forced_0 23 rfl rfl
theorem dksX0_forced_2 : cX0_forced.data.toList.drop 46 = dktX0_forced_2 := dk_seg dksX0_forced_1 23 rfl rfl
theorem dX0_forced_0 : decode cX0_forced 0 = .ok (.aload_n 0, 1) := dk_42 (dk_at dksX0_forced_0 0 rfl rfl)
theorem dX0_forced_1 : decode cX0_forced 1 = .ok (.invokevirtual 285, 3) := dk_182 1 29 (dk_at dksX0_forced_0 1 rfl rfl)
theorem dX0_forced_4 : decode cX0_forced 4 = .ok (.ifCond .ne 5, 3) := dk_154 0 5 (dk_at dksX0_forced_0 4 rfl rfl)
theorem dX0_forced_7 : decode cX0_forced 7 = .ok (.iconst (-1), 1) := dk_2 (dk_at dksX0_forced_0 7 rfl rfl)
theorem dX0_forced_8 : decode cX0_forced 8 = .ok (.ireturn, 1) := dk_172 (dk_at dksX0_forced_0 8 rfl rfl)
theorem dX0_forced_9 : decode cX0_forced 9 = .ok (.aload_n 0, 1) := dk_42 (dk_at dksX0_forced_0 9 rfl rfl)
theorem dX0_forced_10 : decode cX0_forced 10 = .ok (.aload_n 0, 1) := dk_42 (dk_at dksX0_forced_0 10 rfl rfl)
theorem dX0_forced_11 : decode cX0_forced 11 = .ok (.getfield 83, 3) := dk_180 0 83 (dk_at dksX0_forced_0 11 rfl rfl)
theorem dX0_forced_14 : decode cX0_forced 14 = .ok (.aload_n 0, 1) := dk_42 (dk_at dksX0_forced_0 14 rfl rfl)
theorem dX0_forced_15 : decode cX0_forced 15 = .ok (.getfield 68, 3) := dk_180 0 68 (dk_at dksX0_forced_0 15 rfl rfl)
theorem dX0_forced_18 : decode cX0_forced 18 = .ok (.iconst 0, 1) := dk_3 (dk_at dksX0_forced_0 18 rfl rfl)
theorem dX0_forced_19 : decode cX0_forced 19 = .ok (.aaload, 1) := dk_50 (dk_at dksX0_forced_0 19 rfl rfl)
theorem dX0_forced_20 : decode cX0_forced 20 = .ok (.invokevirtual 319, 3) := dk_182 1 63 (dk_at dksX0_forced_0 20 rfl rfl)
theorem dX0_forced_23 : decode cX0_forced 23 = .ok (.ifCond .eq 5, 3) := dk_153 0 5 (dk_at dksX0_forced_1 0 rfl rfl)
theorem dX0_forced_26 : decode cX0_forced 26 = .ok (.iconst 1, 1) := dk_4 (dk_at dksX0_forced_1 3 rfl rfl)
theorem dX0_forced_27 : decode cX0_forced 27 = .ok (.ireturn, 1) := dk_172 (dk_at dksX0_forced_1 4 rfl rfl)
theorem dX0_forced_28 : decode cX0_forced 28 = .ok (.iconst 0, 1) := dk_3 (dk_at dksX0_forced_1 5 rfl rfl)
theorem dX0_forced_29 : decode cX0_forced 29 = .ok (.istore_n 1, 1) := dk_60 (dk_at dksX0_forced_1 6 rfl rfl)
theorem dX0_forced_30 : decode cX0_forced 30 = .ok (.iload_n 1, 1) := dk_27 (dk_at dksX0_forced_1 7 rfl rfl)
theorem dX0_forced_31 : decode cX0_forced 31 = .ok (.aload_n 0, 1) := dk_42 (dk_at dksX0_forced_1 8 rfl rfl)
theorem dX0_forced_32 : decode cX0_forced 32 = .ok (.getfield 77, 3) := dk_180 0 77 (dk_at dksX0_forced_1 9 rfl rfl)
theorem dX0_forced_35 : decode cX0_forced 35 = .ok (.getfield 276, 3) := dk_180 1 20 (dk_at dksX0_forced_1 12 rfl rfl)
theorem dX0_forced_38 : decode cX0_forced 38 = .ok (.if_icmp .ge 19, 3) := dk_162 0 19 (dk_at dksX0_forced_1 15 rfl rfl)
theorem dX0_forced_41 : decode cX0_forced 41 = .ok (.aload_n 0, 1) := dk_42 (dk_at dksX0_forced_1 18 rfl rfl)
theorem dX0_forced_42 : decode cX0_forced 42 = .ok (.iload_n 1, 1) := dk_27 (dk_at dksX0_forced_1 19 rfl rfl)
theorem dX0_forced_43 : decode cX0_forced 43 = .ok (.invokevirtual 327, 3) := dk_182 1 71 (dk_at dksX0_forced_1 20 rfl rfl)
theorem dX0_forced_46 : decode cX0_forced 46 = .ok (.ifCond .eq 5, 3) := dk_153 0 5 (dk_at dksX0_forced_2 0 rfl rfl)
theorem dX0_forced_49 : decode cX0_forced 49 = .ok (.iconst 2, 1) := dk_5 (dk_at dksX0_forced_2 3 rfl rfl)
theorem dX0_forced_50 : decode cX0_forced 50 = .ok (.ireturn, 1) := dk_172 (dk_at dksX0_forced_2 4 rfl rfl)
theorem dX0_forced_51 : decode cX0_forced 51 = .ok (.iinc 1 1, 3) := dk_132 1 1 (dk_at dksX0_forced_2 5 rfl rfl)
theorem dX0_forced_54 : decode cX0_forced 54 = .ok (.goto (-24), 3) := dk_167 255 232 (dk_at dksX0_forced_2 8 rfl rfl)
theorem dX0_forced_57 : decode cX0_forced 57 = .ok (.iconst (-1), 1) := dk_2 (dk_at dksX0_forced_2 11 rfl rfl)
theorem dX0_forced_58 : decode cX0_forced 58 = .ok (.ireturn, 1) := dk_172 (dk_at dksX0_forced_2 12 rfl rfl)
abbrev cX0_takes : ByteArray := prog_1_method_36_code
def yX0_takes : MethodName := ⟨RX0, "takes", "(LGardenChess$State;LGardenChess$Moves;)Z"⟩
def dkwX0_takes_2 : List UInt8 := [153, 0, 5, 4, 172, 132, 3, 1, 167, 255, 212, 3, 172]
abbrev dktX0_takes_2 : List UInt8 := dkwX0_takes_2 ++ []
def dkwX0_takes_1 : List UInt8 := [180, 1, 31, 29, 46, 46, 54, 4, 21, 4, 2, 159, 0, 17, 42, 21, 4, 182, 1, 59, 180, 0, 241]
abbrev dktX0_takes_1 : List UInt8 := dkwX0_takes_1 ++ dktX0_takes_2
def dkwX0_takes_0 : List UInt8 := [43, 43, 180, 0, 208, 44, 182, 1, 25, 3, 62, 29, 44, 180, 1, 20, 162, 0, 42, 43, 180, 1, 17, 44]
abbrev dktX0_takes_0 : List UInt8 := dkwX0_takes_0 ++ dktX0_takes_1
theorem dksX0_takes_0 : cX0_takes.data.toList.drop 0 = dktX0_takes_0 := by decide +kernel
theorem dksX0_takes_1 : cX0_takes.data.toList.drop 24 = dktX0_takes_1 := dk_seg dksX0_takes_0 24 rfl rfl
theorem dksX0_takes_2 : cX0_takes.data.toList.drop 47 = dktX0_takes_2 := dk_seg dksX0_takes_1 23 rfl rfl
theorem dX0_takes_0 : decode cX0_takes 0 = .ok (.aload_n 1, 1) := dk_43 (dk_at dksX0_takes_0 0 rfl rfl)
theorem dX0_takes_1 : decode cX0_takes 1 = .ok (.aload_n 1, 1) := dk_43 (dk_at dksX0_takes_0 1 rfl rfl)
theorem dX0_takes_2 : decode cX0_takes 2 = .ok (.getfield 208, 3) := dk_180 0 208 (dk_at dksX0_takes_0 2 rfl rfl)
theorem dX0_takes_5 : decode cX0_takes 5 = .ok (.aload_n 2, 1) := dk_44 (dk_at dksX0_takes_0 5 rfl rfl)
theorem dX0_takes_6 : decode cX0_takes 6 = .ok (.invokevirtual 281, 3) := dk_182 1 25 (dk_at dksX0_takes_0 6 rfl rfl)
theorem dX0_takes_9 : decode cX0_takes 9 = .ok (.iconst 0, 1) := dk_3 (dk_at dksX0_takes_0 9 rfl rfl)
theorem dX0_takes_10 : decode cX0_takes 10 = .ok (.istore_n 3, 1) := dk_62 (dk_at dksX0_takes_0 10 rfl rfl)
theorem dX0_takes_11 : decode cX0_takes 11 = .ok (.iload_n 3, 1) := dk_29 (dk_at dksX0_takes_0 11 rfl rfl)
theorem dX0_takes_12 : decode cX0_takes 12 = .ok (.aload_n 2, 1) := dk_44 (dk_at dksX0_takes_0 12 rfl rfl)
theorem dX0_takes_13 : decode cX0_takes 13 = .ok (.getfield 276, 3) := dk_180 1 20 (dk_at dksX0_takes_0 13 rfl rfl)
theorem dX0_takes_16 : decode cX0_takes 16 = .ok (.if_icmp .ge 42, 3) := dk_162 0 42 (dk_at dksX0_takes_0 16 rfl rfl)
theorem dX0_takes_19 : decode cX0_takes 19 = .ok (.aload_n 1, 1) := dk_43 (dk_at dksX0_takes_0 19 rfl rfl)
theorem dX0_takes_20 : decode cX0_takes 20 = .ok (.getfield 273, 3) := dk_180 1 17 (dk_at dksX0_takes_0 20 rfl rfl)
theorem dX0_takes_23 : decode cX0_takes 23 = .ok (.aload_n 2, 1) := dk_44 (dk_at dksX0_takes_0 23 rfl rfl)
theorem dX0_takes_24 : decode cX0_takes 24 = .ok (.getfield 287, 3) := dk_180 1 31 (dk_at dksX0_takes_1 0 rfl rfl)
theorem dX0_takes_27 : decode cX0_takes 27 = .ok (.iload_n 3, 1) := dk_29 (dk_at dksX0_takes_1 3 rfl rfl)
theorem dX0_takes_28 : decode cX0_takes 28 = .ok (.iaload, 1) := dk_46 (dk_at dksX0_takes_1 4 rfl rfl)
theorem dX0_takes_29 : decode cX0_takes 29 = .ok (.iaload, 1) := dk_46 (dk_at dksX0_takes_1 5 rfl rfl)
theorem dX0_takes_30 : decode cX0_takes 30 = .ok (.istore 4, 2) := dk_54 4 (dk_at dksX0_takes_1 6 rfl rfl)
theorem dX0_takes_32 : decode cX0_takes 32 = .ok (.iload 4, 2) := dk_21 4 (dk_at dksX0_takes_1 8 rfl rfl)
theorem dX0_takes_34 : decode cX0_takes 34 = .ok (.iconst (-1), 1) := dk_2 (dk_at dksX0_takes_1 10 rfl rfl)
theorem dX0_takes_35 : decode cX0_takes 35 = .ok (.if_icmp .eq 17, 3) := dk_159 0 17 (dk_at dksX0_takes_1 11 rfl rfl)
theorem dX0_takes_38 : decode cX0_takes 38 = .ok (.aload_n 0, 1) := dk_42 (dk_at dksX0_takes_1 14 rfl rfl)
theorem dX0_takes_39 : decode cX0_takes 39 = .ok (.iload 4, 2) := dk_21 4 (dk_at dksX0_takes_1 15 rfl rfl)
theorem dX0_takes_41 : decode cX0_takes 41 = .ok (.invokevirtual 315, 3) := dk_182 1 59 (dk_at dksX0_takes_1 17 rfl rfl)
theorem dX0_takes_44 : decode cX0_takes 44 = .ok (.getfield 241, 3) := dk_180 0 241 (dk_at dksX0_takes_1 20 rfl rfl)
theorem dX0_takes_47 : decode cX0_takes 47 = .ok (.ifCond .eq 5, 3) := dk_153 0 5 (dk_at dksX0_takes_2 0 rfl rfl)
theorem dX0_takes_50 : decode cX0_takes 50 = .ok (.iconst 1, 1) := dk_4 (dk_at dksX0_takes_2 3 rfl rfl)
theorem dX0_takes_51 : decode cX0_takes 51 = .ok (.ireturn, 1) := dk_172 (dk_at dksX0_takes_2 4 rfl rfl)
theorem dX0_takes_52 : decode cX0_takes 52 = .ok (.iinc 3 1, 3) := dk_132 3 1 (dk_at dksX0_takes_2 5 rfl rfl)
theorem dX0_takes_55 : decode cX0_takes 55 = .ok (.goto (-44), 3) := dk_167 255 212 (dk_at dksX0_takes_2 8 rfl rfl)
theorem dX0_takes_58 : decode cX0_takes 58 = .ok (.iconst 0, 1) := dk_3 (dk_at dksX0_takes_2 11 rfl rfl)
theorem dX0_takes_59 : decode cX0_takes 59 = .ok (.ireturn, 1) := dk_172 (dk_at dksX0_takes_2 12 rfl rfl)
abbrev cX0_isForcedBy : ByteArray := prog_1_method_37_code
def yX0_isForcedBy : MethodName := ⟨RX0, "isForcedBy", "(I)Z"⟩
def dkwX0_isForcedBy_7 : List UInt8 := [3, 172, 132, 3, 1, 167, 255, 154, 4, 172]
abbrev dktX0_isForcedBy_7 : List UInt8 := dkwX0_isForcedBy_7 ++ []
def dkwX0_isForcedBy_6 : List UInt8 := [167, 0, 4, 3, 54, 7, 42, 180, 0, 87, 21, 4, 21, 5, 21, 6, 182, 1, 67, 21, 7, 154, 0, 5]
abbrev dktX0_isForcedBy_6 : List UInt8 := dkwX0_isForcedBy_6 ++ dktX0_isForcedBy_7
def dkwX0_isForcedBy_5 : List UInt8 := [180, 1, 22, 154, 0, 24, 42, 42, 180, 0, 87, 42, 180, 0, 68, 5, 50, 182, 1, 63, 153, 0, 7, 4]
abbrev dktX0_isForcedBy_5 : List UInt8 := dkwX0_isForcedBy_5 ++ dktX0_isForcedBy_6
def dkwX0_isForcedBy_4 : List UInt8 := [46, 54, 5, 42, 180, 0, 87, 21, 4, 44, 180, 1, 31, 29, 46, 182, 1, 39, 54, 6, 42, 180, 0, 87]
abbrev dktX0_isForcedBy_4 : List UInt8 := dkwX0_isForcedBy_4 ++ dktX0_isForcedBy_5
def dkwX0_isForcedBy_3 : List UInt8 := [44, 180, 1, 20, 162, 0, 100, 44, 180, 1, 32, 29, 46, 54, 4, 42, 180, 0, 87, 180, 0, 249, 21, 4]
abbrev dktX0_isForcedBy_3 : List UInt8 := dkwX0_isForcedBy_3 ++ dktX0_isForcedBy_4
def dkwX0_isForcedBy_2 : List UInt8 := [180, 0, 68, 4, 50, 77, 42, 180, 0, 87, 42, 180, 0, 87, 180, 0, 208, 44, 182, 1, 25, 3, 62, 29]
abbrev dktX0_isForcedBy_2 : List UInt8 := dkwX0_isForcedBy_2 ++ dktX0_isForcedBy_3
def dkwX0_isForcedBy_1 : List UInt8 := [180, 1, 31, 27, 46, 182, 1, 39, 87, 42, 180, 0, 87, 182, 0, 215, 153, 0, 5, 3, 172, 42]
abbrev dktX0_isForcedBy_1 : List UInt8 := dkwX0_isForcedBy_1 ++ dktX0_isForcedBy_2
def dkwX0_isForcedBy_0 : List UInt8 := [42, 180, 0, 87, 42, 180, 0, 83, 182, 1, 35, 42, 180, 0, 77, 180, 1, 32, 27, 46, 42, 180, 0, 77]
abbrev dktX0_isForcedBy_0 : List UInt8 := dkwX0_isForcedBy_0 ++ dktX0_isForcedBy_1
theorem dksX0_isForcedBy_0 : cX0_isForcedBy.data.toList.drop 0 = dktX0_isForcedBy_0 := by decide +kernel
theorem dksX0_isForcedBy_1 : cX0_isForcedBy.data.toList.drop 24 = dktX0_isForcedBy_1 := dk_seg dksX0_isForcedBy_0 24 rfl rfl
theorem dksX0_isForcedBy_2 : cX0_isForcedBy.data.toList.drop 46 = dktX0_isForcedBy_2 := dk_seg dksX0_isForcedBy_1 22 rfl rfl
theorem dksX0_isForcedBy_3 : cX0_isForcedBy.data.toList.drop 70 = dktX0_isForcedBy_3 := dk_seg dksX0_isForcedBy_2 24 rfl rfl
theorem dksX0_isForcedBy_4 : cX0_isForcedBy.data.toList.drop 94 = dktX0_isForcedBy_4 := dk_seg dksX0_isForcedBy_3 24 rfl rfl
theorem dksX0_isForcedBy_5 : cX0_isForcedBy.data.toList.drop 118 = dktX0_isForcedBy_5 := dk_seg dksX0_isForcedBy_4 24 rfl rfl
theorem dksX0_isForcedBy_6 : cX0_isForcedBy.data.toList.drop 142 = dktX0_isForcedBy_6 := dk_seg dksX0_isForcedBy_5 24 rfl rfl
theorem dksX0_isForcedBy_7 : cX0_isForcedBy.data.toList.drop 166 = dktX0_isForcedBy_7 := dk_seg dksX0_isForcedBy_6 24 rfl rfl
theorem dX0_isForcedBy_0 : decode cX0_isForcedBy 0 = .ok (.aload_n 0, 1) := dk_42 (dk_at dksX0_isForcedBy_0 0 rfl rfl)
theorem dX0_isForcedBy_1 : decode cX0_isForcedBy 1 = .ok (.getfield 87, 3) := dk_180 0 87 (dk_at dksX0_isForcedBy_0 1 rfl rfl)
theorem dX0_isForcedBy_4 : decode cX0_isForcedBy 4 = .ok (.aload_n 0, 1) := dk_42 (dk_at dksX0_isForcedBy_0 4 rfl rfl)
theorem dX0_isForcedBy_5 : decode cX0_isForcedBy 5 = .ok (.getfield 83, 3) := dk_180 0 83 (dk_at dksX0_isForcedBy_0 5 rfl rfl)
theorem dX0_isForcedBy_8 : decode cX0_isForcedBy 8 = .ok (.invokevirtual 291, 3) := dk_182 1 35 (dk_at dksX0_isForcedBy_0 8 rfl rfl)
theorem dX0_isForcedBy_11 : decode cX0_isForcedBy 11 = .ok (.aload_n 0, 1) := dk_42 (dk_at dksX0_isForcedBy_0 11 rfl rfl)
theorem dX0_isForcedBy_12 : decode cX0_isForcedBy 12 = .ok (.getfield 77, 3) := dk_180 0 77 (dk_at dksX0_isForcedBy_0 12 rfl rfl)
theorem dX0_isForcedBy_15 : decode cX0_isForcedBy 15 = .ok (.getfield 288, 3) := dk_180 1 32 (dk_at dksX0_isForcedBy_0 15 rfl rfl)
theorem dX0_isForcedBy_18 : decode cX0_isForcedBy 18 = .ok (.iload_n 1, 1) := dk_27 (dk_at dksX0_isForcedBy_0 18 rfl rfl)
theorem dX0_isForcedBy_19 : decode cX0_isForcedBy 19 = .ok (.iaload, 1) := dk_46 (dk_at dksX0_isForcedBy_0 19 rfl rfl)
theorem dX0_isForcedBy_20 : decode cX0_isForcedBy 20 = .ok (.aload_n 0, 1) := dk_42 (dk_at dksX0_isForcedBy_0 20 rfl rfl)
theorem dX0_isForcedBy_21 : decode cX0_isForcedBy 21 = .ok (.getfield 77, 3) := dk_180 0 77 (dk_at dksX0_isForcedBy_0 21 rfl rfl)
theorem dX0_isForcedBy_24 : decode cX0_isForcedBy 24 = .ok (.getfield 287, 3) := dk_180 1 31 (dk_at dksX0_isForcedBy_1 0 rfl rfl)
theorem dX0_isForcedBy_27 : decode cX0_isForcedBy 27 = .ok (.iload_n 1, 1) := dk_27 (dk_at dksX0_isForcedBy_1 3 rfl rfl)
theorem dX0_isForcedBy_28 : decode cX0_isForcedBy 28 = .ok (.iaload, 1) := dk_46 (dk_at dksX0_isForcedBy_1 4 rfl rfl)
theorem dX0_isForcedBy_29 : decode cX0_isForcedBy 29 = .ok (.invokevirtual 295, 3) := dk_182 1 39 (dk_at dksX0_isForcedBy_1 5 rfl rfl)
theorem dX0_isForcedBy_32 : decode cX0_isForcedBy 32 = .ok (.pop, 1) := dk_87 (dk_at dksX0_isForcedBy_1 8 rfl rfl)
theorem dX0_isForcedBy_33 : decode cX0_isForcedBy 33 = .ok (.aload_n 0, 1) := dk_42 (dk_at dksX0_isForcedBy_1 9 rfl rfl)
theorem dX0_isForcedBy_34 : decode cX0_isForcedBy 34 = .ok (.getfield 87, 3) := dk_180 0 87 (dk_at dksX0_isForcedBy_1 10 rfl rfl)
theorem dX0_isForcedBy_37 : decode cX0_isForcedBy 37 = .ok (.invokevirtual 215, 3) := dk_182 0 215 (dk_at dksX0_isForcedBy_1 13 rfl rfl)
theorem dX0_isForcedBy_40 : decode cX0_isForcedBy 40 = .ok (.ifCond .eq 5, 3) := dk_153 0 5 (dk_at dksX0_isForcedBy_1 16 rfl rfl)
theorem dX0_isForcedBy_43 : decode cX0_isForcedBy 43 = .ok (.iconst 0, 1) := dk_3 (dk_at dksX0_isForcedBy_1 19 rfl rfl)
theorem dX0_isForcedBy_44 : decode cX0_isForcedBy 44 = .ok (.ireturn, 1) := dk_172 (dk_at dksX0_isForcedBy_1 20 rfl rfl)
theorem dX0_isForcedBy_45 : decode cX0_isForcedBy 45 = .ok (.aload_n 0, 1) := dk_42 (dk_at dksX0_isForcedBy_1 21 rfl rfl)
theorem dX0_isForcedBy_46 : decode cX0_isForcedBy 46 = .ok (.getfield 68, 3) := dk_180 0 68 (dk_at dksX0_isForcedBy_2 0 rfl rfl)
theorem dX0_isForcedBy_49 : decode cX0_isForcedBy 49 = .ok (.iconst 1, 1) := dk_4 (dk_at dksX0_isForcedBy_2 3 rfl rfl)
theorem dX0_isForcedBy_50 : decode cX0_isForcedBy 50 = .ok (.aaload, 1) := dk_50 (dk_at dksX0_isForcedBy_2 4 rfl rfl)
theorem dX0_isForcedBy_51 : decode cX0_isForcedBy 51 = .ok (.astore_n 2, 1) := dk_77 (dk_at dksX0_isForcedBy_2 5 rfl rfl)
theorem dX0_isForcedBy_52 : decode cX0_isForcedBy 52 = .ok (.aload_n 0, 1) := dk_42 (dk_at dksX0_isForcedBy_2 6 rfl rfl)
theorem dX0_isForcedBy_53 : decode cX0_isForcedBy 53 = .ok (.getfield 87, 3) := dk_180 0 87 (dk_at dksX0_isForcedBy_2 7 rfl rfl)
theorem dX0_isForcedBy_56 : decode cX0_isForcedBy 56 = .ok (.aload_n 0, 1) := dk_42 (dk_at dksX0_isForcedBy_2 10 rfl rfl)
theorem dX0_isForcedBy_57 : decode cX0_isForcedBy 57 = .ok (.getfield 87, 3) := dk_180 0 87 (dk_at dksX0_isForcedBy_2 11 rfl rfl)
theorem dX0_isForcedBy_60 : decode cX0_isForcedBy 60 = .ok (.getfield 208, 3) := dk_180 0 208 (dk_at dksX0_isForcedBy_2 14 rfl rfl)
theorem dX0_isForcedBy_63 : decode cX0_isForcedBy 63 = .ok (.aload_n 2, 1) := dk_44 (dk_at dksX0_isForcedBy_2 17 rfl rfl)
theorem dX0_isForcedBy_64 : decode cX0_isForcedBy 64 = .ok (.invokevirtual 281, 3) := dk_182 1 25 (dk_at dksX0_isForcedBy_2 18 rfl rfl)
theorem dX0_isForcedBy_67 : decode cX0_isForcedBy 67 = .ok (.iconst 0, 1) := dk_3 (dk_at dksX0_isForcedBy_2 21 rfl rfl)
theorem dX0_isForcedBy_68 : decode cX0_isForcedBy 68 = .ok (.istore_n 3, 1) := dk_62 (dk_at dksX0_isForcedBy_2 22 rfl rfl)
theorem dX0_isForcedBy_69 : decode cX0_isForcedBy 69 = .ok (.iload_n 3, 1) := dk_29 (dk_at dksX0_isForcedBy_2 23 rfl rfl)
theorem dX0_isForcedBy_70 : decode cX0_isForcedBy 70 = .ok (.aload_n 2, 1) := dk_44 (dk_at dksX0_isForcedBy_3 0 rfl rfl)
theorem dX0_isForcedBy_71 : decode cX0_isForcedBy 71 = .ok (.getfield 276, 3) := dk_180 1 20 (dk_at dksX0_isForcedBy_3 1 rfl rfl)
theorem dX0_isForcedBy_74 : decode cX0_isForcedBy 74 = .ok (.if_icmp .ge 100, 3) := dk_162 0 100 (dk_at dksX0_isForcedBy_3 4 rfl rfl)
theorem dX0_isForcedBy_77 : decode cX0_isForcedBy 77 = .ok (.aload_n 2, 1) := dk_44 (dk_at dksX0_isForcedBy_3 7 rfl rfl)
theorem dX0_isForcedBy_78 : decode cX0_isForcedBy 78 = .ok (.getfield 288, 3) := dk_180 1 32 (dk_at dksX0_isForcedBy_3 8 rfl rfl)
theorem dX0_isForcedBy_81 : decode cX0_isForcedBy 81 = .ok (.iload_n 3, 1) := dk_29 (dk_at dksX0_isForcedBy_3 11 rfl rfl)
theorem dX0_isForcedBy_82 : decode cX0_isForcedBy 82 = .ok (.iaload, 1) := dk_46 (dk_at dksX0_isForcedBy_3 12 rfl rfl)
theorem dX0_isForcedBy_83 : decode cX0_isForcedBy 83 = .ok (.istore 4, 2) := dk_54 4 (dk_at dksX0_isForcedBy_3 13 rfl rfl)
theorem dX0_isForcedBy_85 : decode cX0_isForcedBy 85 = .ok (.aload_n 0, 1) := dk_42 (dk_at dksX0_isForcedBy_3 15 rfl rfl)
theorem dX0_isForcedBy_86 : decode cX0_isForcedBy 86 = .ok (.getfield 87, 3) := dk_180 0 87 (dk_at dksX0_isForcedBy_3 16 rfl rfl)
theorem dX0_isForcedBy_89 : decode cX0_isForcedBy 89 = .ok (.getfield 249, 3) := dk_180 0 249 (dk_at dksX0_isForcedBy_3 19 rfl rfl)
theorem dX0_isForcedBy_92 : decode cX0_isForcedBy 92 = .ok (.iload 4, 2) := dk_21 4 (dk_at dksX0_isForcedBy_3 22 rfl rfl)
theorem dX0_isForcedBy_94 : decode cX0_isForcedBy 94 = .ok (.iaload, 1) := dk_46 (dk_at dksX0_isForcedBy_4 0 rfl rfl)
theorem dX0_isForcedBy_95 : decode cX0_isForcedBy 95 = .ok (.istore 5, 2) := dk_54 5 (dk_at dksX0_isForcedBy_4 1 rfl rfl)
theorem dX0_isForcedBy_97 : decode cX0_isForcedBy 97 = .ok (.aload_n 0, 1) := dk_42 (dk_at dksX0_isForcedBy_4 3 rfl rfl)
theorem dX0_isForcedBy_98 : decode cX0_isForcedBy 98 = .ok (.getfield 87, 3) := dk_180 0 87 (dk_at dksX0_isForcedBy_4 4 rfl rfl)
theorem dX0_isForcedBy_101 : decode cX0_isForcedBy 101 = .ok (.iload 4, 2) := dk_21 4 (dk_at dksX0_isForcedBy_4 7 rfl rfl)
theorem dX0_isForcedBy_103 : decode cX0_isForcedBy 103 = .ok (.aload_n 2, 1) := dk_44 (dk_at dksX0_isForcedBy_4 9 rfl rfl)
theorem dX0_isForcedBy_104 : decode cX0_isForcedBy 104 = .ok (.getfield 287, 3) := dk_180 1 31 (dk_at dksX0_isForcedBy_4 10 rfl rfl)
theorem dX0_isForcedBy_107 : decode cX0_isForcedBy 107 = .ok (.iload_n 3, 1) := dk_29 (dk_at dksX0_isForcedBy_4 13 rfl rfl)
theorem dX0_isForcedBy_108 : decode cX0_isForcedBy 108 = .ok (.iaload, 1) := dk_46 (dk_at dksX0_isForcedBy_4 14 rfl rfl)
theorem dX0_isForcedBy_109 : decode cX0_isForcedBy 109 = .ok (.invokevirtual 295, 3) := dk_182 1 39 (dk_at dksX0_isForcedBy_4 15 rfl rfl)
theorem dX0_isForcedBy_112 : decode cX0_isForcedBy 112 = .ok (.istore 6, 2) := dk_54 6 (dk_at dksX0_isForcedBy_4 18 rfl rfl)
theorem dX0_isForcedBy_114 : decode cX0_isForcedBy 114 = .ok (.aload_n 0, 1) := dk_42 (dk_at dksX0_isForcedBy_4 20 rfl rfl)
theorem dX0_isForcedBy_115 : decode cX0_isForcedBy 115 = .ok (.getfield 87, 3) := dk_180 0 87 (dk_at dksX0_isForcedBy_4 21 rfl rfl)
theorem dX0_isForcedBy_118 : decode cX0_isForcedBy 118 = .ok (.getfield 278, 3) := dk_180 1 22 (dk_at dksX0_isForcedBy_5 0 rfl rfl)
theorem dX0_isForcedBy_121 : decode cX0_isForcedBy 121 = .ok (.ifCond .ne 24, 3) := dk_154 0 24 (dk_at dksX0_isForcedBy_5 3 rfl rfl)
theorem dX0_isForcedBy_124 : decode cX0_isForcedBy 124 = .ok (.aload_n 0, 1) := dk_42 (dk_at dksX0_isForcedBy_5 6 rfl rfl)
theorem dX0_isForcedBy_125 : decode cX0_isForcedBy 125 = .ok (.aload_n 0, 1) := dk_42 (dk_at dksX0_isForcedBy_5 7 rfl rfl)
theorem dX0_isForcedBy_126 : decode cX0_isForcedBy 126 = .ok (.getfield 87, 3) := dk_180 0 87 (dk_at dksX0_isForcedBy_5 8 rfl rfl)
theorem dX0_isForcedBy_129 : decode cX0_isForcedBy 129 = .ok (.aload_n 0, 1) := dk_42 (dk_at dksX0_isForcedBy_5 11 rfl rfl)
theorem dX0_isForcedBy_130 : decode cX0_isForcedBy 130 = .ok (.getfield 68, 3) := dk_180 0 68 (dk_at dksX0_isForcedBy_5 12 rfl rfl)
theorem dX0_isForcedBy_133 : decode cX0_isForcedBy 133 = .ok (.iconst 2, 1) := dk_5 (dk_at dksX0_isForcedBy_5 15 rfl rfl)
theorem dX0_isForcedBy_134 : decode cX0_isForcedBy 134 = .ok (.aaload, 1) := dk_50 (dk_at dksX0_isForcedBy_5 16 rfl rfl)
theorem dX0_isForcedBy_135 : decode cX0_isForcedBy 135 = .ok (.invokevirtual 319, 3) := dk_182 1 63 (dk_at dksX0_isForcedBy_5 17 rfl rfl)
theorem dX0_isForcedBy_138 : decode cX0_isForcedBy 138 = .ok (.ifCond .eq 7, 3) := dk_153 0 7 (dk_at dksX0_isForcedBy_5 20 rfl rfl)
theorem dX0_isForcedBy_141 : decode cX0_isForcedBy 141 = .ok (.iconst 1, 1) := dk_4 (dk_at dksX0_isForcedBy_5 23 rfl rfl)
theorem dX0_isForcedBy_142 : decode cX0_isForcedBy 142 = .ok (.goto 4, 3) := dk_167 0 4 (dk_at dksX0_isForcedBy_6 0 rfl rfl)
theorem dX0_isForcedBy_145 : decode cX0_isForcedBy 145 = .ok (.iconst 0, 1) := dk_3 (dk_at dksX0_isForcedBy_6 3 rfl rfl)
theorem dX0_isForcedBy_146 : decode cX0_isForcedBy 146 = .ok (.istore 7, 2) := dk_54 7 (dk_at dksX0_isForcedBy_6 4 rfl rfl)
theorem dX0_isForcedBy_148 : decode cX0_isForcedBy 148 = .ok (.aload_n 0, 1) := dk_42 (dk_at dksX0_isForcedBy_6 6 rfl rfl)
theorem dX0_isForcedBy_149 : decode cX0_isForcedBy 149 = .ok (.getfield 87, 3) := dk_180 0 87 (dk_at dksX0_isForcedBy_6 7 rfl rfl)
theorem dX0_isForcedBy_152 : decode cX0_isForcedBy 152 = .ok (.iload 4, 2) := dk_21 4 (dk_at dksX0_isForcedBy_6 10 rfl rfl)
theorem dX0_isForcedBy_154 : decode cX0_isForcedBy 154 = .ok (.iload 5, 2) := dk_21 5 (dk_at dksX0_isForcedBy_6 12 rfl rfl)
theorem dX0_isForcedBy_156 : decode cX0_isForcedBy 156 = .ok (.iload 6, 2) := dk_21 6 (dk_at dksX0_isForcedBy_6 14 rfl rfl)
theorem dX0_isForcedBy_158 : decode cX0_isForcedBy 158 = .ok (.invokevirtual 323, 3) := dk_182 1 67 (dk_at dksX0_isForcedBy_6 16 rfl rfl)
theorem dX0_isForcedBy_161 : decode cX0_isForcedBy 161 = .ok (.iload 7, 2) := dk_21 7 (dk_at dksX0_isForcedBy_6 19 rfl rfl)
theorem dX0_isForcedBy_163 : decode cX0_isForcedBy 163 = .ok (.ifCond .ne 5, 3) := dk_154 0 5 (dk_at dksX0_isForcedBy_6 21 rfl rfl)
theorem dX0_isForcedBy_166 : decode cX0_isForcedBy 166 = .ok (.iconst 0, 1) := dk_3 (dk_at dksX0_isForcedBy_7 0 rfl rfl)
theorem dX0_isForcedBy_167 : decode cX0_isForcedBy 167 = .ok (.ireturn, 1) := dk_172 (dk_at dksX0_isForcedBy_7 1 rfl rfl)
theorem dX0_isForcedBy_168 : decode cX0_isForcedBy 168 = .ok (.iinc 3 1, 3) := dk_132 3 1 (dk_at dksX0_isForcedBy_7 2 rfl rfl)
theorem dX0_isForcedBy_171 : decode cX0_isForcedBy 171 = .ok (.goto (-102), 3) := dk_167 255 154 (dk_at dksX0_isForcedBy_7 5 rfl rfl)
theorem dX0_isForcedBy_174 : decode cX0_isForcedBy 174 = .ok (.iconst 1, 1) := dk_4 (dk_at dksX0_isForcedBy_7 8 rfl rfl)
theorem dX0_isForcedBy_175 : decode cX0_isForcedBy 175 = .ok (.ireturn, 1) := dk_172 (dk_at dksX0_isForcedBy_7 9 rfl rfl)
abbrev cX0_later : ByteArray := prog_1_method_40_code
def yX0_later : MethodName := ⟨RX0, "later", "(II)I"⟩
def dkwX0_later_3 : List UInt8 := [180, 0, 87, 182, 0, 215, 153, 0, 7, 4, 167, 0, 4, 3, 172]
abbrev dktX0_later_3 : List UInt8 := dkwX0_later_3 ++ []
def dkwX0_later_2 : List UInt8 := [28, 182, 0, 218, 167, 0, 33, 28, 5, 160, 0, 13, 42, 180, 0, 87, 182, 0, 221, 167, 0, 18, 42]
abbrev dktX0_later_2 : List UInt8 := dkwX0_later_2 ++ dktX0_later_3
def dkwX0_later_1 : List UInt8 := [180, 0, 87, 42, 180, 0, 83, 182, 1, 35, 27, 182, 1, 77, 87, 28, 5, 162, 0, 14, 42, 180, 0, 87]
abbrev dktX0_later_1 : List UInt8 := dkwX0_later_1 ++ dktX0_later_2
def dkwX0_later_0 : List UInt8 := [42, 27, 3, 16, 20, 182, 1, 74, 153, 0, 12, 28, 3, 6, 184, 0, 178, 154, 0, 5, 2, 172, 42]
abbrev dktX0_later_0 : List UInt8 := dkwX0_later_0 ++ dktX0_later_1
theorem dksX0_later_0 : cX0_later.data.toList.drop 0 = dktX0_later_0 := by decide +kernel
theorem dksX0_later_1 : cX0_later.data.toList.drop 23 = dktX0_later_1 := dk_seg dksX0_later_0 23 rfl rfl
theorem dksX0_later_2 : cX0_later.data.toList.drop 47 = dktX0_later_2 := dk_seg dksX0_later_1 24 rfl rfl
theorem dksX0_later_3 : cX0_later.data.toList.drop 70 = dktX0_later_3 := dk_seg dksX0_later_2 23 rfl rfl
theorem dX0_later_0 : decode cX0_later 0 = .ok (.aload_n 0, 1) := dk_42 (dk_at dksX0_later_0 0 rfl rfl)
theorem dX0_later_1 : decode cX0_later 1 = .ok (.iload_n 1, 1) := dk_27 (dk_at dksX0_later_0 1 rfl rfl)
theorem dX0_later_2 : decode cX0_later 2 = .ok (.iconst 0, 1) := dk_3 (dk_at dksX0_later_0 2 rfl rfl)
theorem dX0_later_3 : decode cX0_later 3 = .ok (.bipush 20, 2) := dk_16 20 (dk_at dksX0_later_0 3 rfl rfl)
theorem dX0_later_5 : decode cX0_later 5 = .ok (.invokevirtual 330, 3) := dk_182 1 74 (dk_at dksX0_later_0 5 rfl rfl)
theorem dX0_later_8 : decode cX0_later 8 = .ok (.ifCond .eq 12, 3) := dk_153 0 12 (dk_at dksX0_later_0 8 rfl rfl)
theorem dX0_later_11 : decode cX0_later 11 = .ok (.iload_n 2, 1) := dk_28 (dk_at dksX0_later_0 11 rfl rfl)
theorem dX0_later_12 : decode cX0_later 12 = .ok (.iconst 0, 1) := dk_3 (dk_at dksX0_later_0 12 rfl rfl)
theorem dX0_later_13 : decode cX0_later 13 = .ok (.iconst 3, 1) := dk_6 (dk_at dksX0_later_0 13 rfl rfl)
theorem dX0_later_14 : decode cX0_later 14 = .ok (.invokestatic 178, 3) := dk_184 0 178 (dk_at dksX0_later_0 14 rfl rfl)
theorem dX0_later_17 : decode cX0_later 17 = .ok (.ifCond .ne 5, 3) := dk_154 0 5 (dk_at dksX0_later_0 17 rfl rfl)
theorem dX0_later_20 : decode cX0_later 20 = .ok (.iconst (-1), 1) := dk_2 (dk_at dksX0_later_0 20 rfl rfl)
theorem dX0_later_21 : decode cX0_later 21 = .ok (.ireturn, 1) := dk_172 (dk_at dksX0_later_0 21 rfl rfl)
theorem dX0_later_22 : decode cX0_later 22 = .ok (.aload_n 0, 1) := dk_42 (dk_at dksX0_later_0 22 rfl rfl)
theorem dX0_later_23 : decode cX0_later 23 = .ok (.getfield 87, 3) := dk_180 0 87 (dk_at dksX0_later_1 0 rfl rfl)
theorem dX0_later_26 : decode cX0_later 26 = .ok (.aload_n 0, 1) := dk_42 (dk_at dksX0_later_1 3 rfl rfl)
theorem dX0_later_27 : decode cX0_later 27 = .ok (.getfield 83, 3) := dk_180 0 83 (dk_at dksX0_later_1 4 rfl rfl)
theorem dX0_later_30 : decode cX0_later 30 = .ok (.invokevirtual 291, 3) := dk_182 1 35 (dk_at dksX0_later_1 7 rfl rfl)
theorem dX0_later_33 : decode cX0_later 33 = .ok (.iload_n 1, 1) := dk_27 (dk_at dksX0_later_1 10 rfl rfl)
theorem dX0_later_34 : decode cX0_later 34 = .ok (.invokevirtual 333, 3) := dk_182 1 77 (dk_at dksX0_later_1 11 rfl rfl)
theorem dX0_later_37 : decode cX0_later 37 = .ok (.pop, 1) := dk_87 (dk_at dksX0_later_1 14 rfl rfl)
theorem dX0_later_38 : decode cX0_later 38 = .ok (.iload_n 2, 1) := dk_28 (dk_at dksX0_later_1 15 rfl rfl)
theorem dX0_later_39 : decode cX0_later 39 = .ok (.iconst 2, 1) := dk_5 (dk_at dksX0_later_1 16 rfl rfl)
theorem dX0_later_40 : decode cX0_later 40 = .ok (.if_icmp .ge 14, 3) := dk_162 0 14 (dk_at dksX0_later_1 17 rfl rfl)
theorem dX0_later_43 : decode cX0_later 43 = .ok (.aload_n 0, 1) := dk_42 (dk_at dksX0_later_1 20 rfl rfl)
theorem dX0_later_44 : decode cX0_later 44 = .ok (.getfield 87, 3) := dk_180 0 87 (dk_at dksX0_later_1 21 rfl rfl)
theorem dX0_later_47 : decode cX0_later 47 = .ok (.iload_n 2, 1) := dk_28 (dk_at dksX0_later_2 0 rfl rfl)
theorem dX0_later_48 : decode cX0_later 48 = .ok (.invokevirtual 218, 3) := dk_182 0 218 (dk_at dksX0_later_2 1 rfl rfl)
theorem dX0_later_51 : decode cX0_later 51 = .ok (.goto 33, 3) := dk_167 0 33 (dk_at dksX0_later_2 4 rfl rfl)
theorem dX0_later_54 : decode cX0_later 54 = .ok (.iload_n 2, 1) := dk_28 (dk_at dksX0_later_2 7 rfl rfl)
theorem dX0_later_55 : decode cX0_later 55 = .ok (.iconst 2, 1) := dk_5 (dk_at dksX0_later_2 8 rfl rfl)
theorem dX0_later_56 : decode cX0_later 56 = .ok (.if_icmp .ne 13, 3) := dk_160 0 13 (dk_at dksX0_later_2 9 rfl rfl)
theorem dX0_later_59 : decode cX0_later 59 = .ok (.aload_n 0, 1) := dk_42 (dk_at dksX0_later_2 12 rfl rfl)
theorem dX0_later_60 : decode cX0_later 60 = .ok (.getfield 87, 3) := dk_180 0 87 (dk_at dksX0_later_2 13 rfl rfl)
theorem dX0_later_63 : decode cX0_later 63 = .ok (.invokevirtual 221, 3) := dk_182 0 221 (dk_at dksX0_later_2 16 rfl rfl)
theorem dX0_later_66 : decode cX0_later 66 = .ok (.goto 18, 3) := dk_167 0 18 (dk_at dksX0_later_2 19 rfl rfl)
theorem dX0_later_69 : decode cX0_later 69 = .ok (.aload_n 0, 1) := dk_42 (dk_at dksX0_later_2 22 rfl rfl)
theorem dX0_later_70 : decode cX0_later 70 = .ok (.getfield 87, 3) := dk_180 0 87 (dk_at dksX0_later_3 0 rfl rfl)
theorem dX0_later_73 : decode cX0_later 73 = .ok (.invokevirtual 215, 3) := dk_182 0 215 (dk_at dksX0_later_3 3 rfl rfl)
theorem dX0_later_76 : decode cX0_later 76 = .ok (.ifCond .eq 7, 3) := dk_153 0 7 (dk_at dksX0_later_3 6 rfl rfl)
theorem dX0_later_79 : decode cX0_later 79 = .ok (.iconst 1, 1) := dk_4 (dk_at dksX0_later_3 9 rfl rfl)
theorem dX0_later_80 : decode cX0_later 80 = .ok (.goto 4, 3) := dk_167 0 4 (dk_at dksX0_later_3 10 rfl rfl)
theorem dX0_later_83 : decode cX0_later 83 = .ok (.iconst 0, 1) := dk_3 (dk_at dksX0_later_3 13 rfl rfl)
theorem dX0_later_84 : decode cX0_later 84 = .ok (.ireturn, 1) := dk_172 (dk_at dksX0_later_3 14 rfl rfl)
abbrev cX0_isAhead : ByteArray := prog_1_method_39_code
def yX0_isAhead : MethodName := ⟨RX0, "isAhead", "(III)Z"⟩
def dkwX0_isAhead_1 : List UInt8 := [96, 17, 3, 231, 163, 0, 7, 4, 167, 0, 4, 3, 172]
abbrev dktX0_isAhead_1 : List UInt8 := dkwX0_isAhead_1 ++ []
def dkwX0_isAhead_0 : List UInt8 := [42, 182, 0, 211, 153, 0, 31, 27, 28, 29, 184, 0, 178, 153, 0, 22, 42, 180, 0, 83, 180, 0, 205, 27]
abbrev dktX0_isAhead_0 : List UInt8 := dkwX0_isAhead_0 ++ dktX0_isAhead_1
theorem dksX0_isAhead_0 : cX0_isAhead.data.toList.drop 0 = dktX0_isAhead_0 := by decide +kernel
theorem dksX0_isAhead_1 : cX0_isAhead.data.toList.drop 24 = dktX0_isAhead_1 := dk_seg dksX0_isAhead_0 24 rfl rfl
theorem dX0_isAhead_0 : decode cX0_isAhead 0 = .ok (.aload_n 0, 1) := dk_42 (dk_at dksX0_isAhead_0 0 rfl rfl)
theorem dX0_isAhead_1 : decode cX0_isAhead 1 = .ok (.invokevirtual 211, 3) := dk_182 0 211 (dk_at dksX0_isAhead_0 1 rfl rfl)
theorem dX0_isAhead_4 : decode cX0_isAhead 4 = .ok (.ifCond .eq 31, 3) := dk_153 0 31 (dk_at dksX0_isAhead_0 4 rfl rfl)
theorem dX0_isAhead_7 : decode cX0_isAhead 7 = .ok (.iload_n 1, 1) := dk_27 (dk_at dksX0_isAhead_0 7 rfl rfl)
theorem dX0_isAhead_8 : decode cX0_isAhead 8 = .ok (.iload_n 2, 1) := dk_28 (dk_at dksX0_isAhead_0 8 rfl rfl)
theorem dX0_isAhead_9 : decode cX0_isAhead 9 = .ok (.iload_n 3, 1) := dk_29 (dk_at dksX0_isAhead_0 9 rfl rfl)
theorem dX0_isAhead_10 : decode cX0_isAhead 10 = .ok (.invokestatic 178, 3) := dk_184 0 178 (dk_at dksX0_isAhead_0 10 rfl rfl)
theorem dX0_isAhead_13 : decode cX0_isAhead 13 = .ok (.ifCond .eq 22, 3) := dk_153 0 22 (dk_at dksX0_isAhead_0 13 rfl rfl)
theorem dX0_isAhead_16 : decode cX0_isAhead 16 = .ok (.aload_n 0, 1) := dk_42 (dk_at dksX0_isAhead_0 16 rfl rfl)
theorem dX0_isAhead_17 : decode cX0_isAhead 17 = .ok (.getfield 83, 3) := dk_180 0 83 (dk_at dksX0_isAhead_0 17 rfl rfl)
theorem dX0_isAhead_20 : decode cX0_isAhead 20 = .ok (.getfield 205, 3) := dk_180 0 205 (dk_at dksX0_isAhead_0 20 rfl rfl)
theorem dX0_isAhead_23 : decode cX0_isAhead 23 = .ok (.iload_n 1, 1) := dk_27 (dk_at dksX0_isAhead_0 23 rfl rfl)
theorem dX0_isAhead_24 : decode cX0_isAhead 24 = .ok (.iadd, 1) := dk_96 (dk_at dksX0_isAhead_1 0 rfl rfl)
theorem dX0_isAhead_25 : decode cX0_isAhead 25 = .ok (.sipush 999, 3) := dk_17 3 231 (dk_at dksX0_isAhead_1 1 rfl rfl)
theorem dX0_isAhead_28 : decode cX0_isAhead 28 = .ok (.if_icmp .gt 7, 3) := dk_163 0 7 (dk_at dksX0_isAhead_1 4 rfl rfl)
theorem dX0_isAhead_31 : decode cX0_isAhead 31 = .ok (.iconst 1, 1) := dk_4 (dk_at dksX0_isAhead_1 7 rfl rfl)
theorem dX0_isAhead_32 : decode cX0_isAhead 32 = .ok (.goto 4, 3) := dk_167 0 4 (dk_at dksX0_isAhead_1 8 rfl rfl)
theorem dX0_isAhead_35 : decode cX0_isAhead 35 = .ok (.iconst 0, 1) := dk_3 (dk_at dksX0_isAhead_1 11 rfl rfl)
theorem dX0_isAhead_36 : decode cX0_isAhead 36 = .ok (.ireturn, 1) := dk_172 (dk_at dksX0_isAhead_1 12 rfl rfl)
abbrev cX0_off : ByteArray := prog_1_method_23_code
def yX0_off : MethodName := ⟨RX0, "off", "(IIII)I"⟩
def dkwX0_off_0 : List UInt8 := [26, 28, 100, 184, 0, 199, 27, 29, 100, 184, 0, 199, 184, 0, 202, 172]
abbrev dktX0_off_0 : List UInt8 := dkwX0_off_0 ++ []
theorem dksX0_off_0 : cX0_off.data.toList.drop 0 = dktX0_off_0 := by decide +kernel
theorem dX0_off_0 : decode cX0_off 0 = .ok (.iload_n 0, 1) := dk_26 (dk_at dksX0_off_0 0 rfl rfl)
theorem dX0_off_1 : decode cX0_off 1 = .ok (.iload_n 2, 1) := dk_28 (dk_at dksX0_off_0 1 rfl rfl)
theorem dX0_off_2 : decode cX0_off 2 = .ok (.isub, 1) := dk_100 (dk_at dksX0_off_0 2 rfl rfl)
theorem dX0_off_3 : decode cX0_off 3 = .ok (.invokestatic 199, 3) := dk_184 0 199 (dk_at dksX0_off_0 3 rfl rfl)
theorem dX0_off_6 : decode cX0_off 6 = .ok (.iload_n 1, 1) := dk_27 (dk_at dksX0_off_0 6 rfl rfl)
theorem dX0_off_7 : decode cX0_off 7 = .ok (.iload_n 3, 1) := dk_29 (dk_at dksX0_off_0 7 rfl rfl)
theorem dX0_off_8 : decode cX0_off 8 = .ok (.isub, 1) := dk_100 (dk_at dksX0_off_0 8 rfl rfl)
theorem dX0_off_9 : decode cX0_off 9 = .ok (.invokestatic 199, 3) := dk_184 0 199 (dk_at dksX0_off_0 9 rfl rfl)
theorem dX0_off_12 : decode cX0_off 12 = .ok (.invokestatic 202, 3) := dk_184 0 202 (dk_at dksX0_off_0 12 rfl rfl)
theorem dX0_off_15 : decode cX0_off 15 = .ok (.ireturn, 1) := dk_172 (dk_at dksX0_off_0 15 rfl rfl)
abbrev cX0_held : ByteArray := prog_1_method_3_code
def yX0_held : MethodName := ⟨RX0, "held", "(J)J"⟩
def dkwX0_held_0 : List UInt8 := [20, 0, 3, 20, 0, 5, 30, 184, 0, 7, 184, 0, 13, 173]
abbrev dktX0_held_0 : List UInt8 := dkwX0_held_0 ++ []
theorem dksX0_held_0 : cX0_held.data.toList.drop 0 = dktX0_held_0 := by decide +kernel
theorem dX0_held_0 : decode cX0_held 0 = .ok (.ldc2_w 3, 3) := dk_20 0 3 (dk_at dksX0_held_0 0 rfl rfl)
theorem dX0_held_3 : decode cX0_held 3 = .ok (.ldc2_w 5, 3) := dk_20 0 5 (dk_at dksX0_held_0 3 rfl rfl)
theorem dX0_held_6 : decode cX0_held 6 = .ok (.lload_n 0, 1) := dk_30 (dk_at dksX0_held_0 6 rfl rfl)
theorem dX0_held_7 : decode cX0_held 7 = .ok (.invokestatic 7, 3) := dk_184 0 7 (dk_at dksX0_held_0 7 rfl rfl)
theorem dX0_held_10 : decode cX0_held 10 = .ok (.invokestatic 13, 3) := dk_184 0 13 (dk_at dksX0_held_0 10 rfl rfl)
theorem dX0_held_13 : decode cX0_held 13 = .ok (.lreturn, 1) := dk_173 (dk_at dksX0_held_0 13 rfl rfl)
abbrev cX0_looked : ByteArray := prog_1_method_61_code
def yX0_looked : MethodName := ⟨RX0, "looked", "(IJ)J"⟩
def dkwX0_looked_3 : List UInt8 := [25, 4, 180, 1, 4, 25, 4, 180, 1, 7, 184, 1, 134, 133, 173]
abbrev dktX0_looked_3 : List UInt8 := dkwX0_looked_3 ++ []
def dkwX0_looked_2 : List UInt8 := [180, 0, 249, 42, 180, 1, 131, 46, 8, 112, 42, 180, 0, 83, 180, 0, 249, 42, 180, 1, 131, 46, 8, 108]
abbrev dktX0_looked_2 : List UInt8 := dkwX0_looked_2 ++ dktX0_looked_3
def dkwX0_looked_1 : List UInt8 := [180, 0, 31, 180, 0, 171, 32, 136, 185, 0, 183, 2, 0, 192, 1, 2, 58, 4, 42, 180, 0, 83]
abbrev dktX0_looked_1 : List UInt8 := dkwX0_looked_1 ++ dktX0_looked_2
def dkwX0_looked_0 : List UInt8 := [27, 154, 0, 19, 32, 9, 148, 155, 0, 13, 32, 42, 182, 0, 176, 133, 148, 155, 0, 5, 9, 173, 42]
abbrev dktX0_looked_0 : List UInt8 := dkwX0_looked_0 ++ dktX0_looked_1
theorem dksX0_looked_0 : cX0_looked.data.toList.drop 0 = dktX0_looked_0 := by decide +kernel
theorem dksX0_looked_1 : cX0_looked.data.toList.drop 23 = dktX0_looked_1 := dk_seg dksX0_looked_0 23 rfl rfl
theorem dksX0_looked_2 : cX0_looked.data.toList.drop 45 = dktX0_looked_2 := dk_seg dksX0_looked_1 22 rfl rfl
theorem dksX0_looked_3 : cX0_looked.data.toList.drop 69 = dktX0_looked_3 := dk_seg dksX0_looked_2 24 rfl rfl
theorem dX0_looked_0 : decode cX0_looked 0 = .ok (.iload_n 1, 1) := dk_27 (dk_at dksX0_looked_0 0 rfl rfl)
theorem dX0_looked_1 : decode cX0_looked 1 = .ok (.ifCond .ne 19, 3) := dk_154 0 19 (dk_at dksX0_looked_0 1 rfl rfl)
theorem dX0_looked_4 : decode cX0_looked 4 = .ok (.lload_n 2, 1) := dk_32 (dk_at dksX0_looked_0 4 rfl rfl)
theorem dX0_looked_5 : decode cX0_looked 5 = .ok (.lconst 0, 1) := dk_9 (dk_at dksX0_looked_0 5 rfl rfl)
theorem dX0_looked_6 : decode cX0_looked 6 = .ok (.lcmp, 1) := dk_148 (dk_at dksX0_looked_0 6 rfl rfl)
theorem dX0_looked_7 : decode cX0_looked 7 = .ok (.ifCond .lt 13, 3) := dk_155 0 13 (dk_at dksX0_looked_0 7 rfl rfl)
theorem dX0_looked_10 : decode cX0_looked 10 = .ok (.lload_n 2, 1) := dk_32 (dk_at dksX0_looked_0 10 rfl rfl)
theorem dX0_looked_11 : decode cX0_looked 11 = .ok (.aload_n 0, 1) := dk_42 (dk_at dksX0_looked_0 11 rfl rfl)
theorem dX0_looked_12 : decode cX0_looked 12 = .ok (.invokevirtual 176, 3) := dk_182 0 176 (dk_at dksX0_looked_0 12 rfl rfl)
theorem dX0_looked_15 : decode cX0_looked 15 = .ok (.i2l, 1) := dk_133 (dk_at dksX0_looked_0 15 rfl rfl)
theorem dX0_looked_16 : decode cX0_looked 16 = .ok (.lcmp, 1) := dk_148 (dk_at dksX0_looked_0 16 rfl rfl)
theorem dX0_looked_17 : decode cX0_looked 17 = .ok (.ifCond .lt 5, 3) := dk_155 0 5 (dk_at dksX0_looked_0 17 rfl rfl)
theorem dX0_looked_20 : decode cX0_looked 20 = .ok (.lconst 0, 1) := dk_9 (dk_at dksX0_looked_0 20 rfl rfl)
theorem dX0_looked_21 : decode cX0_looked 21 = .ok (.lreturn, 1) := dk_173 (dk_at dksX0_looked_0 21 rfl rfl)
theorem dX0_looked_22 : decode cX0_looked 22 = .ok (.aload_n 0, 1) := dk_42 (dk_at dksX0_looked_0 22 rfl rfl)
theorem dX0_looked_23 : decode cX0_looked 23 = .ok (.getfield 31, 3) := dk_180 0 31 (dk_at dksX0_looked_1 0 rfl rfl)
theorem dX0_looked_26 : decode cX0_looked 26 = .ok (.getfield 171, 3) := dk_180 0 171 (dk_at dksX0_looked_1 3 rfl rfl)
theorem dX0_looked_29 : decode cX0_looked 29 = .ok (.lload_n 2, 1) := dk_32 (dk_at dksX0_looked_1 6 rfl rfl)
theorem dX0_looked_30 : decode cX0_looked 30 = .ok (.l2i, 1) := dk_136 (dk_at dksX0_looked_1 7 rfl rfl)
theorem dX0_looked_31 : decode cX0_looked 31 = .ok (.invokeinterface 183 2, 5) := by decide +kernel
theorem dX0_looked_36 : decode cX0_looked 36 = .ok (.checkcast 258, 3) := dk_192 1 2 (dk_at dksX0_looked_1 13 rfl rfl)
theorem dX0_looked_39 : decode cX0_looked 39 = .ok (.astore 4, 2) := dk_58 4 (dk_at dksX0_looked_1 16 rfl rfl)
theorem dX0_looked_41 : decode cX0_looked 41 = .ok (.aload_n 0, 1) := dk_42 (dk_at dksX0_looked_1 18 rfl rfl)
theorem dX0_looked_42 : decode cX0_looked 42 = .ok (.getfield 83, 3) := dk_180 0 83 (dk_at dksX0_looked_1 19 rfl rfl)
theorem dX0_looked_45 : decode cX0_looked 45 = .ok (.getfield 249, 3) := dk_180 0 249 (dk_at dksX0_looked_2 0 rfl rfl)
theorem dX0_looked_48 : decode cX0_looked 48 = .ok (.aload_n 0, 1) := dk_42 (dk_at dksX0_looked_2 3 rfl rfl)
theorem dX0_looked_49 : decode cX0_looked 49 = .ok (.getfield 387, 3) := dk_180 1 131 (dk_at dksX0_looked_2 4 rfl rfl)
theorem dX0_looked_52 : decode cX0_looked 52 = .ok (.iaload, 1) := dk_46 (dk_at dksX0_looked_2 7 rfl rfl)
theorem dX0_looked_53 : decode cX0_looked 53 = .ok (.iconst 5, 1) := dk_8 (dk_at dksX0_looked_2 8 rfl rfl)
theorem dX0_looked_54 : decode cX0_looked 54 = .ok (.irem, 1) := dk_112 (dk_at dksX0_looked_2 9 rfl rfl)
theorem dX0_looked_55 : decode cX0_looked 55 = .ok (.aload_n 0, 1) := dk_42 (dk_at dksX0_looked_2 10 rfl rfl)
theorem dX0_looked_56 : decode cX0_looked 56 = .ok (.getfield 83, 3) := dk_180 0 83 (dk_at dksX0_looked_2 11 rfl rfl)
theorem dX0_looked_59 : decode cX0_looked 59 = .ok (.getfield 249, 3) := dk_180 0 249 (dk_at dksX0_looked_2 14 rfl rfl)
theorem dX0_looked_62 : decode cX0_looked 62 = .ok (.aload_n 0, 1) := dk_42 (dk_at dksX0_looked_2 17 rfl rfl)
theorem dX0_looked_63 : decode cX0_looked 63 = .ok (.getfield 387, 3) := dk_180 1 131 (dk_at dksX0_looked_2 18 rfl rfl)
theorem dX0_looked_66 : decode cX0_looked 66 = .ok (.iaload, 1) := dk_46 (dk_at dksX0_looked_2 21 rfl rfl)
theorem dX0_looked_67 : decode cX0_looked 67 = .ok (.iconst 5, 1) := dk_8 (dk_at dksX0_looked_2 22 rfl rfl)
theorem dX0_looked_68 : decode cX0_looked 68 = .ok (.idiv, 1) := dk_108 (dk_at dksX0_looked_2 23 rfl rfl)
theorem dX0_looked_69 : decode cX0_looked 69 = .ok (.aload 4, 2) := dk_25 4 (dk_at dksX0_looked_3 0 rfl rfl)
theorem dX0_looked_71 : decode cX0_looked 71 = .ok (.getfield 260, 3) := dk_180 1 4 (dk_at dksX0_looked_3 2 rfl rfl)
theorem dX0_looked_74 : decode cX0_looked 74 = .ok (.aload 4, 2) := dk_25 4 (dk_at dksX0_looked_3 5 rfl rfl)
theorem dX0_looked_76 : decode cX0_looked 76 = .ok (.getfield 263, 3) := dk_180 1 7 (dk_at dksX0_looked_3 7 rfl rfl)
theorem dX0_looked_79 : decode cX0_looked 79 = .ok (.invokestatic 390, 3) := dk_184 1 134 (dk_at dksX0_looked_3 10 rfl rfl)
theorem dX0_looked_82 : decode cX0_looked 82 = .ok (.i2l, 1) := dk_133 (dk_at dksX0_looked_3 13 rfl rfl)
theorem dX0_looked_83 : decode cX0_looked 83 = .ok (.lreturn, 1) := dk_173 (dk_at dksX0_looked_3 14 rfl rfl)
abbrev cX0_crop : ByteArray := prog_1_method_41_code
def yX0_crop : MethodName := ⟨RX0, "crop", "(II)I"⟩
def dkwX0_crop_1 : List UInt8 := [180, 0, 83, 182, 1, 35, 28, 182, 1, 77, 180, 1, 10, 27, 46, 167, 0, 4, 2, 172]
abbrev dktX0_crop_1 : List UInt8 := dkwX0_crop_1 ++ []
def dkwX0_crop_0 : List UInt8 := [42, 27, 182, 0, 255, 153, 0, 37, 42, 28, 3, 16, 20, 182, 1, 74, 153, 0, 26, 42, 180, 0, 87, 42]
abbrev dktX0_crop_0 : List UInt8 := dkwX0_crop_0 ++ dktX0_crop_1
theorem dksX0_crop_0 : cX0_crop.data.toList.drop 0 = dktX0_crop_0 := by decide +kernel
theorem dksX0_crop_1 : cX0_crop.data.toList.drop 24 = dktX0_crop_1 := dk_seg dksX0_crop_0 24 rfl rfl
theorem dX0_crop_0 : decode cX0_crop 0 = .ok (.aload_n 0, 1) := dk_42 (dk_at dksX0_crop_0 0 rfl rfl)
theorem dX0_crop_1 : decode cX0_crop 1 = .ok (.iload_n 1, 1) := dk_27 (dk_at dksX0_crop_0 1 rfl rfl)
theorem dX0_crop_2 : decode cX0_crop 2 = .ok (.invokevirtual 255, 3) := dk_182 0 255 (dk_at dksX0_crop_0 2 rfl rfl)
theorem dX0_crop_5 : decode cX0_crop 5 = .ok (.ifCond .eq 37, 3) := dk_153 0 37 (dk_at dksX0_crop_0 5 rfl rfl)
theorem dX0_crop_8 : decode cX0_crop 8 = .ok (.aload_n 0, 1) := dk_42 (dk_at dksX0_crop_0 8 rfl rfl)
theorem dX0_crop_9 : decode cX0_crop 9 = .ok (.iload_n 2, 1) := dk_28 (dk_at dksX0_crop_0 9 rfl rfl)
theorem dX0_crop_10 : decode cX0_crop 10 = .ok (.iconst 0, 1) := dk_3 (dk_at dksX0_crop_0 10 rfl rfl)
theorem dX0_crop_11 : decode cX0_crop 11 = .ok (.bipush 20, 2) := dk_16 20 (dk_at dksX0_crop_0 11 rfl rfl)
theorem dX0_crop_13 : decode cX0_crop 13 = .ok (.invokevirtual 330, 3) := dk_182 1 74 (dk_at dksX0_crop_0 13 rfl rfl)
theorem dX0_crop_16 : decode cX0_crop 16 = .ok (.ifCond .eq 26, 3) := dk_153 0 26 (dk_at dksX0_crop_0 16 rfl rfl)
theorem dX0_crop_19 : decode cX0_crop 19 = .ok (.aload_n 0, 1) := dk_42 (dk_at dksX0_crop_0 19 rfl rfl)
theorem dX0_crop_20 : decode cX0_crop 20 = .ok (.getfield 87, 3) := dk_180 0 87 (dk_at dksX0_crop_0 20 rfl rfl)
theorem dX0_crop_23 : decode cX0_crop 23 = .ok (.aload_n 0, 1) := dk_42 (dk_at dksX0_crop_0 23 rfl rfl)
theorem dX0_crop_24 : decode cX0_crop 24 = .ok (.getfield 83, 3) := dk_180 0 83 (dk_at dksX0_crop_1 0 rfl rfl)
theorem dX0_crop_27 : decode cX0_crop 27 = .ok (.invokevirtual 291, 3) := dk_182 1 35 (dk_at dksX0_crop_1 3 rfl rfl)
theorem dX0_crop_30 : decode cX0_crop 30 = .ok (.iload_n 2, 1) := dk_28 (dk_at dksX0_crop_1 6 rfl rfl)
theorem dX0_crop_31 : decode cX0_crop 31 = .ok (.invokevirtual 333, 3) := dk_182 1 77 (dk_at dksX0_crop_1 7 rfl rfl)
theorem dX0_crop_34 : decode cX0_crop 34 = .ok (.getfield 266, 3) := dk_180 1 10 (dk_at dksX0_crop_1 10 rfl rfl)
theorem dX0_crop_37 : decode cX0_crop 37 = .ok (.iload_n 1, 1) := dk_27 (dk_at dksX0_crop_1 13 rfl rfl)
theorem dX0_crop_38 : decode cX0_crop 38 = .ok (.iaload, 1) := dk_46 (dk_at dksX0_crop_1 14 rfl rfl)
theorem dX0_crop_39 : decode cX0_crop 39 = .ok (.goto 4, 3) := dk_167 0 4 (dk_at dksX0_crop_1 15 rfl rfl)
theorem dX0_crop_42 : decode cX0_crop 42 = .ok (.iconst (-1), 1) := dk_2 (dk_at dksX0_crop_1 18 rfl rfl)
theorem dX0_crop_43 : decode cX0_crop 43 = .ok (.ireturn, 1) := dk_172 (dk_at dksX0_crop_1 19 rfl rfl)
abbrev cX0_spare : ByteArray := prog_1_method_42_code
def yX0_spare : MethodName := ⟨RX0, "spare", "(III)I"⟩
def dkwX0_spare_5 : List UInt8 := [154, 0, 8, 21, 4, 167, 0, 5, 21, 5, 172]
abbrev dktX0_spare_5 : List UInt8 := dkwX0_spare_5 ++ []
def dkwX0_spare_4 : List UInt8 := [42, 180, 0, 87, 180, 1, 10, 27, 46, 54, 5, 21, 6, 54, 4, 132, 6, 1, 167, 255, 184, 29]
abbrev dktX0_spare_4 : List UInt8 := dkwX0_spare_4 ++ dktX0_spare_5
def dkwX0_spare_3 : List UInt8 := [28, 4, 100, 182, 1, 77, 87, 42, 180, 0, 87, 180, 1, 10, 27, 46, 21, 5, 163, 0, 6, 167, 0, 18]
abbrev dktX0_spare_3 : List UInt8 := dkwX0_spare_3 ++ dktX0_spare_4
def dkwX0_spare_2 : List UInt8 := [162, 0, 69, 42, 180, 0, 87, 42, 180, 0, 83, 182, 1, 35, 21, 6, 182, 1, 81, 87, 42, 180, 0, 87]
abbrev dktX0_spare_2 : List UInt8 := dkwX0_spare_2 ++ dktX0_spare_3
def dkwX0_spare_1 : List UInt8 := [184, 0, 178, 154, 0, 5, 2, 172, 2, 54, 4, 2, 54, 5, 3, 54, 6, 21, 6, 42, 182, 1, 29]
abbrev dktX0_spare_1 : List UInt8 := dkwX0_spare_1 ++ dktX0_spare_2
def dkwX0_spare_0 : List UInt8 := [42, 27, 182, 0, 255, 153, 0, 23, 42, 28, 4, 16, 6, 182, 1, 74, 153, 0, 12, 29, 3, 4]
abbrev dktX0_spare_0 : List UInt8 := dkwX0_spare_0 ++ dktX0_spare_1
theorem dksX0_spare_0 : cX0_spare.data.toList.drop 0 = dktX0_spare_0 := by decide +kernel
theorem dksX0_spare_1 : cX0_spare.data.toList.drop 22 = dktX0_spare_1 := dk_seg dksX0_spare_0 22 rfl rfl
theorem dksX0_spare_2 : cX0_spare.data.toList.drop 45 = dktX0_spare_2 := dk_seg dksX0_spare_1 23 rfl rfl
theorem dksX0_spare_3 : cX0_spare.data.toList.drop 69 = dktX0_spare_3 := dk_seg dksX0_spare_2 24 rfl rfl
theorem dksX0_spare_4 : cX0_spare.data.toList.drop 93 = dktX0_spare_4 := dk_seg dksX0_spare_3 24 rfl rfl
theorem dksX0_spare_5 : cX0_spare.data.toList.drop 115 = dktX0_spare_5 := dk_seg dksX0_spare_4 22 rfl rfl
theorem dX0_spare_0 : decode cX0_spare 0 = .ok (.aload_n 0, 1) := dk_42 (dk_at dksX0_spare_0 0 rfl rfl)
theorem dX0_spare_1 : decode cX0_spare 1 = .ok (.iload_n 1, 1) := dk_27 (dk_at dksX0_spare_0 1 rfl rfl)
theorem dX0_spare_2 : decode cX0_spare 2 = .ok (.invokevirtual 255, 3) := dk_182 0 255 (dk_at dksX0_spare_0 2 rfl rfl)
theorem dX0_spare_5 : decode cX0_spare 5 = .ok (.ifCond .eq 23, 3) := dk_153 0 23 (dk_at dksX0_spare_0 5 rfl rfl)
theorem dX0_spare_8 : decode cX0_spare 8 = .ok (.aload_n 0, 1) := dk_42 (dk_at dksX0_spare_0 8 rfl rfl)
theorem dX0_spare_9 : decode cX0_spare 9 = .ok (.iload_n 2, 1) := dk_28 (dk_at dksX0_spare_0 9 rfl rfl)
theorem dX0_spare_10 : decode cX0_spare 10 = .ok (.iconst 1, 1) := dk_4 (dk_at dksX0_spare_0 10 rfl rfl)
theorem dX0_spare_11 : decode cX0_spare 11 = .ok (.bipush 6, 2) := dk_16 6 (dk_at dksX0_spare_0 11 rfl rfl)
theorem dX0_spare_13 : decode cX0_spare 13 = .ok (.invokevirtual 330, 3) := dk_182 1 74 (dk_at dksX0_spare_0 13 rfl rfl)
theorem dX0_spare_16 : decode cX0_spare 16 = .ok (.ifCond .eq 12, 3) := dk_153 0 12 (dk_at dksX0_spare_0 16 rfl rfl)
theorem dX0_spare_19 : decode cX0_spare 19 = .ok (.iload_n 3, 1) := dk_29 (dk_at dksX0_spare_0 19 rfl rfl)
theorem dX0_spare_20 : decode cX0_spare 20 = .ok (.iconst 0, 1) := dk_3 (dk_at dksX0_spare_0 20 rfl rfl)
theorem dX0_spare_21 : decode cX0_spare 21 = .ok (.iconst 1, 1) := dk_4 (dk_at dksX0_spare_0 21 rfl rfl)
theorem dX0_spare_22 : decode cX0_spare 22 = .ok (.invokestatic 178, 3) := dk_184 0 178 (dk_at dksX0_spare_1 0 rfl rfl)
theorem dX0_spare_25 : decode cX0_spare 25 = .ok (.ifCond .ne 5, 3) := dk_154 0 5 (dk_at dksX0_spare_1 3 rfl rfl)
theorem dX0_spare_28 : decode cX0_spare 28 = .ok (.iconst (-1), 1) := dk_2 (dk_at dksX0_spare_1 6 rfl rfl)
theorem dX0_spare_29 : decode cX0_spare 29 = .ok (.ireturn, 1) := dk_172 (dk_at dksX0_spare_1 7 rfl rfl)
theorem dX0_spare_30 : decode cX0_spare 30 = .ok (.iconst (-1), 1) := dk_2 (dk_at dksX0_spare_1 8 rfl rfl)
theorem dX0_spare_31 : decode cX0_spare 31 = .ok (.istore 4, 2) := dk_54 4 (dk_at dksX0_spare_1 9 rfl rfl)
theorem dX0_spare_33 : decode cX0_spare 33 = .ok (.iconst (-1), 1) := dk_2 (dk_at dksX0_spare_1 11 rfl rfl)
theorem dX0_spare_34 : decode cX0_spare 34 = .ok (.istore 5, 2) := dk_54 5 (dk_at dksX0_spare_1 12 rfl rfl)
theorem dX0_spare_36 : decode cX0_spare 36 = .ok (.iconst 0, 1) := dk_3 (dk_at dksX0_spare_1 14 rfl rfl)
theorem dX0_spare_37 : decode cX0_spare 37 = .ok (.istore 6, 2) := dk_54 6 (dk_at dksX0_spare_1 15 rfl rfl)
theorem dX0_spare_39 : decode cX0_spare 39 = .ok (.iload 6, 2) := dk_21 6 (dk_at dksX0_spare_1 17 rfl rfl)
theorem dX0_spare_41 : decode cX0_spare 41 = .ok (.aload_n 0, 1) := dk_42 (dk_at dksX0_spare_1 19 rfl rfl)
theorem dX0_spare_42 : decode cX0_spare 42 = .ok (.invokevirtual 285, 3) := dk_182 1 29 (dk_at dksX0_spare_1 20 rfl rfl)
theorem dX0_spare_45 : decode cX0_spare 45 = .ok (.if_icmp .ge 69, 3) := dk_162 0 69 (dk_at dksX0_spare_2 0 rfl rfl)
theorem dX0_spare_48 : decode cX0_spare 48 = .ok (.aload_n 0, 1) := dk_42 (dk_at dksX0_spare_2 3 rfl rfl)
theorem dX0_spare_49 : decode cX0_spare 49 = .ok (.getfield 87, 3) := dk_180 0 87 (dk_at dksX0_spare_2 4 rfl rfl)
theorem dX0_spare_52 : decode cX0_spare 52 = .ok (.aload_n 0, 1) := dk_42 (dk_at dksX0_spare_2 7 rfl rfl)
theorem dX0_spare_53 : decode cX0_spare 53 = .ok (.getfield 83, 3) := dk_180 0 83 (dk_at dksX0_spare_2 8 rfl rfl)
theorem dX0_spare_56 : decode cX0_spare 56 = .ok (.invokevirtual 291, 3) := dk_182 1 35 (dk_at dksX0_spare_2 11 rfl rfl)
theorem dX0_spare_59 : decode cX0_spare 59 = .ok (.iload 6, 2) := dk_21 6 (dk_at dksX0_spare_2 14 rfl rfl)
theorem dX0_spare_61 : decode cX0_spare 61 = .ok (.invokevirtual 337, 3) := dk_182 1 81 (dk_at dksX0_spare_2 16 rfl rfl)
theorem dX0_spare_64 : decode cX0_spare 64 = .ok (.pop, 1) := dk_87 (dk_at dksX0_spare_2 19 rfl rfl)
theorem dX0_spare_65 : decode cX0_spare 65 = .ok (.aload_n 0, 1) := dk_42 (dk_at dksX0_spare_2 20 rfl rfl)
theorem dX0_spare_66 : decode cX0_spare 66 = .ok (.getfield 87, 3) := dk_180 0 87 (dk_at dksX0_spare_2 21 rfl rfl)
theorem dX0_spare_69 : decode cX0_spare 69 = .ok (.iload_n 2, 1) := dk_28 (dk_at dksX0_spare_3 0 rfl rfl)
theorem dX0_spare_70 : decode cX0_spare 70 = .ok (.iconst 1, 1) := dk_4 (dk_at dksX0_spare_3 1 rfl rfl)
theorem dX0_spare_71 : decode cX0_spare 71 = .ok (.isub, 1) := dk_100 (dk_at dksX0_spare_3 2 rfl rfl)
theorem dX0_spare_72 : decode cX0_spare 72 = .ok (.invokevirtual 333, 3) := dk_182 1 77 (dk_at dksX0_spare_3 3 rfl rfl)
theorem dX0_spare_75 : decode cX0_spare 75 = .ok (.pop, 1) := dk_87 (dk_at dksX0_spare_3 6 rfl rfl)
theorem dX0_spare_76 : decode cX0_spare 76 = .ok (.aload_n 0, 1) := dk_42 (dk_at dksX0_spare_3 7 rfl rfl)
theorem dX0_spare_77 : decode cX0_spare 77 = .ok (.getfield 87, 3) := dk_180 0 87 (dk_at dksX0_spare_3 8 rfl rfl)
theorem dX0_spare_80 : decode cX0_spare 80 = .ok (.getfield 266, 3) := dk_180 1 10 (dk_at dksX0_spare_3 11 rfl rfl)
theorem dX0_spare_83 : decode cX0_spare 83 = .ok (.iload_n 1, 1) := dk_27 (dk_at dksX0_spare_3 14 rfl rfl)
theorem dX0_spare_84 : decode cX0_spare 84 = .ok (.iaload, 1) := dk_46 (dk_at dksX0_spare_3 15 rfl rfl)
theorem dX0_spare_85 : decode cX0_spare 85 = .ok (.iload 5, 2) := dk_21 5 (dk_at dksX0_spare_3 16 rfl rfl)
theorem dX0_spare_87 : decode cX0_spare 87 = .ok (.if_icmp .gt 6, 3) := dk_163 0 6 (dk_at dksX0_spare_3 18 rfl rfl)
theorem dX0_spare_90 : decode cX0_spare 90 = .ok (.goto 18, 3) := dk_167 0 18 (dk_at dksX0_spare_3 21 rfl rfl)
theorem dX0_spare_93 : decode cX0_spare 93 = .ok (.aload_n 0, 1) := dk_42 (dk_at dksX0_spare_4 0 rfl rfl)
theorem dX0_spare_94 : decode cX0_spare 94 = .ok (.getfield 87, 3) := dk_180 0 87 (dk_at dksX0_spare_4 1 rfl rfl)
theorem dX0_spare_97 : decode cX0_spare 97 = .ok (.getfield 266, 3) := dk_180 1 10 (dk_at dksX0_spare_4 4 rfl rfl)
theorem dX0_spare_100 : decode cX0_spare 100 = .ok (.iload_n 1, 1) := dk_27 (dk_at dksX0_spare_4 7 rfl rfl)
theorem dX0_spare_101 : decode cX0_spare 101 = .ok (.iaload, 1) := dk_46 (dk_at dksX0_spare_4 8 rfl rfl)
theorem dX0_spare_102 : decode cX0_spare 102 = .ok (.istore 5, 2) := dk_54 5 (dk_at dksX0_spare_4 9 rfl rfl)
theorem dX0_spare_104 : decode cX0_spare 104 = .ok (.iload 6, 2) := dk_21 6 (dk_at dksX0_spare_4 11 rfl rfl)
theorem dX0_spare_106 : decode cX0_spare 106 = .ok (.istore 4, 2) := dk_54 4 (dk_at dksX0_spare_4 13 rfl rfl)
theorem dX0_spare_108 : decode cX0_spare 108 = .ok (.iinc 6 1, 3) := dk_132 6 1 (dk_at dksX0_spare_4 15 rfl rfl)
theorem dX0_spare_111 : decode cX0_spare 111 = .ok (.goto (-72), 3) := dk_167 255 184 (dk_at dksX0_spare_4 18 rfl rfl)
theorem dX0_spare_114 : decode cX0_spare 114 = .ok (.iload_n 3, 1) := dk_29 (dk_at dksX0_spare_4 21 rfl rfl)
theorem dX0_spare_115 : decode cX0_spare 115 = .ok (.ifCond .ne 8, 3) := dk_154 0 8 (dk_at dksX0_spare_5 0 rfl rfl)
theorem dX0_spare_118 : decode cX0_spare 118 = .ok (.iload 4, 2) := dk_21 4 (dk_at dksX0_spare_5 3 rfl rfl)
theorem dX0_spare_120 : decode cX0_spare 120 = .ok (.goto 5, 3) := dk_167 0 5 (dk_at dksX0_spare_5 5 rfl rfl)
theorem dX0_spare_123 : decode cX0_spare 123 = .ok (.iload 5, 2) := dk_21 5 (dk_at dksX0_spare_5 8 rfl rfl)
theorem dX0_spare_125 : decode cX0_spare 125 = .ok (.ireturn, 1) := dk_172 (dk_at dksX0_spare_5 10 rfl rfl)
abbrev cX0_sow : ByteArray := prog_1_method_43_code
def yX0_sow : MethodName := ⟨RX0, "sow", "(II)I"⟩
def dkwX0_sow_8 : List UInt8 := [160, 0, 9, 29, 8, 108, 167, 0, 16, 20, 1, 87, 42, 180, 0, 90, 29, 47, 184, 0, 7, 136, 172]
abbrev dktX0_sow_8 : List UInt8 := dkwX0_sow_8 ++ []
def dkwX0_sow_7 : List UInt8 := [156, 0, 6, 21, 4, 62, 132, 4, 1, 167, 255, 205, 28, 154, 0, 9, 29, 8, 112, 167, 0, 27, 28, 4]
abbrev dktX0_sow_7 : List UInt8 := dkwX0_sow_7 ++ dktX0_sow_8
def dkwX0_sow_6 : List UInt8 := [180, 0, 31, 180, 0, 159, 162, 0, 23, 42, 180, 0, 90, 21, 4, 47, 42, 180, 0, 90, 29, 47, 148]
abbrev dktX0_sow_6 : List UInt8 := dkwX0_sow_6 ++ dktX0_sow_7
def dkwX0_sow_5 : List UInt8 := [62, 4, 54, 4, 21, 4, 8, 42, 180, 0, 31, 180, 0, 182, 104, 162, 0, 43, 21, 4, 8, 112, 42]
abbrev dktX0_sow_5 : List UInt8 := dkwX0_sow_5 ++ dktX0_sow_6
def dkwX0_sow_4 : List UInt8 := [112, 21, 4, 8, 108, 182, 1, 84, 133, 97, 80, 132, 4, 1, 167, 255, 220, 132, 3, 1, 167, 255, 197, 3]
abbrev dktX0_sow_4 : List UInt8 := dkwX0_sow_4 ++ dktX0_sow_5
def dkwX0_sow_3 : List UInt8 := [54, 4, 21, 4, 16, 25, 162, 0, 35, 42, 180, 0, 90, 21, 4, 92, 47, 42, 180, 0, 87, 21, 4, 8]
abbrev dktX0_sow_3 : List UInt8 := dkwX0_sow_3 ++ dktX0_sow_4
def dkwX0_sow_2 : List UInt8 := [180, 0, 83, 182, 1, 35, 87, 3, 62, 29, 27, 162, 0, 60, 42, 180, 0, 87, 4, 182, 1, 77, 87, 3]
abbrev dktX0_sow_2 : List UInt8 := dkwX0_sow_2 ++ dktX0_sow_3
def dkwX0_sow_1 : List UInt8 := [29, 16, 25, 162, 0, 16, 42, 180, 0, 90, 29, 9, 80, 132, 3, 1, 167, 255, 240, 42, 180, 0, 87, 42]
abbrev dktX0_sow_1 : List UInt8 := dkwX0_sow_1 ++ dktX0_sow_2
def dkwX0_sow_0 : List UInt8 := [42, 27, 3, 16, 20, 182, 1, 74, 153, 0, 12, 28, 3, 5, 184, 0, 178, 154, 0, 5, 2, 172, 3, 62]
abbrev dktX0_sow_0 : List UInt8 := dkwX0_sow_0 ++ dktX0_sow_1
theorem dksX0_sow_0 : cX0_sow.data.toList.drop 0 = dktX0_sow_0 := by decide +kernel
theorem dksX0_sow_1 : cX0_sow.data.toList.drop 24 = dktX0_sow_1 := dk_seg dksX0_sow_0 24 rfl rfl
theorem dksX0_sow_2 : cX0_sow.data.toList.drop 48 = dktX0_sow_2 := dk_seg dksX0_sow_1 24 rfl rfl
theorem dksX0_sow_3 : cX0_sow.data.toList.drop 72 = dktX0_sow_3 := dk_seg dksX0_sow_2 24 rfl rfl
theorem dksX0_sow_4 : cX0_sow.data.toList.drop 96 = dktX0_sow_4 := dk_seg dksX0_sow_3 24 rfl rfl
theorem dksX0_sow_5 : cX0_sow.data.toList.drop 120 = dktX0_sow_5 := dk_seg dksX0_sow_4 24 rfl rfl
theorem dksX0_sow_6 : cX0_sow.data.toList.drop 143 = dktX0_sow_6 := dk_seg dksX0_sow_5 23 rfl rfl
theorem dksX0_sow_7 : cX0_sow.data.toList.drop 166 = dktX0_sow_7 := dk_seg dksX0_sow_6 23 rfl rfl
theorem dksX0_sow_8 : cX0_sow.data.toList.drop 190 = dktX0_sow_8 := dk_seg dksX0_sow_7 24 rfl rfl
theorem dX0_sow_0 : decode cX0_sow 0 = .ok (.aload_n 0, 1) := dk_42 (dk_at dksX0_sow_0 0 rfl rfl)
theorem dX0_sow_1 : decode cX0_sow 1 = .ok (.iload_n 1, 1) := dk_27 (dk_at dksX0_sow_0 1 rfl rfl)
theorem dX0_sow_2 : decode cX0_sow 2 = .ok (.iconst 0, 1) := dk_3 (dk_at dksX0_sow_0 2 rfl rfl)
theorem dX0_sow_3 : decode cX0_sow 3 = .ok (.bipush 20, 2) := dk_16 20 (dk_at dksX0_sow_0 3 rfl rfl)
theorem dX0_sow_5 : decode cX0_sow 5 = .ok (.invokevirtual 330, 3) := dk_182 1 74 (dk_at dksX0_sow_0 5 rfl rfl)
theorem dX0_sow_8 : decode cX0_sow 8 = .ok (.ifCond .eq 12, 3) := dk_153 0 12 (dk_at dksX0_sow_0 8 rfl rfl)
theorem dX0_sow_11 : decode cX0_sow 11 = .ok (.iload_n 2, 1) := dk_28 (dk_at dksX0_sow_0 11 rfl rfl)
theorem dX0_sow_12 : decode cX0_sow 12 = .ok (.iconst 0, 1) := dk_3 (dk_at dksX0_sow_0 12 rfl rfl)
theorem dX0_sow_13 : decode cX0_sow 13 = .ok (.iconst 2, 1) := dk_5 (dk_at dksX0_sow_0 13 rfl rfl)
theorem dX0_sow_14 : decode cX0_sow 14 = .ok (.invokestatic 178, 3) := dk_184 0 178 (dk_at dksX0_sow_0 14 rfl rfl)
theorem dX0_sow_17 : decode cX0_sow 17 = .ok (.ifCond .ne 5, 3) := dk_154 0 5 (dk_at dksX0_sow_0 17 rfl rfl)
theorem dX0_sow_20 : decode cX0_sow 20 = .ok (.iconst (-1), 1) := dk_2 (dk_at dksX0_sow_0 20 rfl rfl)
theorem dX0_sow_21 : decode cX0_sow 21 = .ok (.ireturn, 1) := dk_172 (dk_at dksX0_sow_0 21 rfl rfl)
theorem dX0_sow_22 : decode cX0_sow 22 = .ok (.iconst 0, 1) := dk_3 (dk_at dksX0_sow_0 22 rfl rfl)
theorem dX0_sow_23 : decode cX0_sow 23 = .ok (.istore_n 3, 1) := dk_62 (dk_at dksX0_sow_0 23 rfl rfl)
theorem dX0_sow_24 : decode cX0_sow 24 = .ok (.iload_n 3, 1) := dk_29 (dk_at dksX0_sow_1 0 rfl rfl)
theorem dX0_sow_25 : decode cX0_sow 25 = .ok (.bipush 25, 2) := dk_16 25 (dk_at dksX0_sow_1 1 rfl rfl)
theorem dX0_sow_27 : decode cX0_sow 27 = .ok (.if_icmp .ge 16, 3) := dk_162 0 16 (dk_at dksX0_sow_1 3 rfl rfl)
theorem dX0_sow_30 : decode cX0_sow 30 = .ok (.aload_n 0, 1) := dk_42 (dk_at dksX0_sow_1 6 rfl rfl)
theorem dX0_sow_31 : decode cX0_sow 31 = .ok (.getfield 90, 3) := dk_180 0 90 (dk_at dksX0_sow_1 7 rfl rfl)
theorem dX0_sow_34 : decode cX0_sow 34 = .ok (.iload_n 3, 1) := dk_29 (dk_at dksX0_sow_1 10 rfl rfl)
theorem dX0_sow_35 : decode cX0_sow 35 = .ok (.lconst 0, 1) := dk_9 (dk_at dksX0_sow_1 11 rfl rfl)
theorem dX0_sow_36 : decode cX0_sow 36 = .ok (.lastore, 1) := dk_80 (dk_at dksX0_sow_1 12 rfl rfl)
theorem dX0_sow_37 : decode cX0_sow 37 = .ok (.iinc 3 1, 3) := dk_132 3 1 (dk_at dksX0_sow_1 13 rfl rfl)
theorem dX0_sow_40 : decode cX0_sow 40 = .ok (.goto (-16), 3) := dk_167 255 240 (dk_at dksX0_sow_1 16 rfl rfl)
theorem dX0_sow_43 : decode cX0_sow 43 = .ok (.aload_n 0, 1) := dk_42 (dk_at dksX0_sow_1 19 rfl rfl)
theorem dX0_sow_44 : decode cX0_sow 44 = .ok (.getfield 87, 3) := dk_180 0 87 (dk_at dksX0_sow_1 20 rfl rfl)
theorem dX0_sow_47 : decode cX0_sow 47 = .ok (.aload_n 0, 1) := dk_42 (dk_at dksX0_sow_1 23 rfl rfl)
theorem dX0_sow_48 : decode cX0_sow 48 = .ok (.getfield 83, 3) := dk_180 0 83 (dk_at dksX0_sow_2 0 rfl rfl)
theorem dX0_sow_51 : decode cX0_sow 51 = .ok (.invokevirtual 291, 3) := dk_182 1 35 (dk_at dksX0_sow_2 3 rfl rfl)
theorem dX0_sow_54 : decode cX0_sow 54 = .ok (.pop, 1) := dk_87 (dk_at dksX0_sow_2 6 rfl rfl)
theorem dX0_sow_55 : decode cX0_sow 55 = .ok (.iconst 0, 1) := dk_3 (dk_at dksX0_sow_2 7 rfl rfl)
theorem dX0_sow_56 : decode cX0_sow 56 = .ok (.istore_n 3, 1) := dk_62 (dk_at dksX0_sow_2 8 rfl rfl)
theorem dX0_sow_57 : decode cX0_sow 57 = .ok (.iload_n 3, 1) := dk_29 (dk_at dksX0_sow_2 9 rfl rfl)
theorem dX0_sow_58 : decode cX0_sow 58 = .ok (.iload_n 1, 1) := dk_27 (dk_at dksX0_sow_2 10 rfl rfl)
theorem dX0_sow_59 : decode cX0_sow 59 = .ok (.if_icmp .ge 60, 3) := dk_162 0 60 (dk_at dksX0_sow_2 11 rfl rfl)
theorem dX0_sow_62 : decode cX0_sow 62 = .ok (.aload_n 0, 1) := dk_42 (dk_at dksX0_sow_2 14 rfl rfl)
theorem dX0_sow_63 : decode cX0_sow 63 = .ok (.getfield 87, 3) := dk_180 0 87 (dk_at dksX0_sow_2 15 rfl rfl)
theorem dX0_sow_66 : decode cX0_sow 66 = .ok (.iconst 1, 1) := dk_4 (dk_at dksX0_sow_2 18 rfl rfl)
theorem dX0_sow_67 : decode cX0_sow 67 = .ok (.invokevirtual 333, 3) := dk_182 1 77 (dk_at dksX0_sow_2 19 rfl rfl)
theorem dX0_sow_70 : decode cX0_sow 70 = .ok (.pop, 1) := dk_87 (dk_at dksX0_sow_2 22 rfl rfl)
theorem dX0_sow_71 : decode cX0_sow 71 = .ok (.iconst 0, 1) := dk_3 (dk_at dksX0_sow_2 23 rfl rfl)
theorem dX0_sow_72 : decode cX0_sow 72 = .ok (.istore 4, 2) := dk_54 4 (dk_at dksX0_sow_3 0 rfl rfl)
theorem dX0_sow_74 : decode cX0_sow 74 = .ok (.iload 4, 2) := dk_21 4 (dk_at dksX0_sow_3 2 rfl rfl)
theorem dX0_sow_76 : decode cX0_sow 76 = .ok (.bipush 25, 2) := dk_16 25 (dk_at dksX0_sow_3 4 rfl rfl)
theorem dX0_sow_78 : decode cX0_sow 78 = .ok (.if_icmp .ge 35, 3) := dk_162 0 35 (dk_at dksX0_sow_3 6 rfl rfl)
theorem dX0_sow_81 : decode cX0_sow 81 = .ok (.aload_n 0, 1) := dk_42 (dk_at dksX0_sow_3 9 rfl rfl)
theorem dX0_sow_82 : decode cX0_sow 82 = .ok (.getfield 90, 3) := dk_180 0 90 (dk_at dksX0_sow_3 10 rfl rfl)
theorem dX0_sow_85 : decode cX0_sow 85 = .ok (.iload 4, 2) := dk_21 4 (dk_at dksX0_sow_3 13 rfl rfl)
theorem dX0_sow_87 : decode cX0_sow 87 = .ok (.dup2, 1) := dk_92 (dk_at dksX0_sow_3 15 rfl rfl)
theorem dX0_sow_88 : decode cX0_sow 88 = .ok (.laload, 1) := dk_47 (dk_at dksX0_sow_3 16 rfl rfl)
theorem dX0_sow_89 : decode cX0_sow 89 = .ok (.aload_n 0, 1) := dk_42 (dk_at dksX0_sow_3 17 rfl rfl)
theorem dX0_sow_90 : decode cX0_sow 90 = .ok (.getfield 87, 3) := dk_180 0 87 (dk_at dksX0_sow_3 18 rfl rfl)
theorem dX0_sow_93 : decode cX0_sow 93 = .ok (.iload 4, 2) := dk_21 4 (dk_at dksX0_sow_3 21 rfl rfl)
theorem dX0_sow_95 : decode cX0_sow 95 = .ok (.iconst 5, 1) := dk_8 (dk_at dksX0_sow_3 23 rfl rfl)
theorem dX0_sow_96 : decode cX0_sow 96 = .ok (.irem, 1) := dk_112 (dk_at dksX0_sow_4 0 rfl rfl)
theorem dX0_sow_97 : decode cX0_sow 97 = .ok (.iload 4, 2) := dk_21 4 (dk_at dksX0_sow_4 1 rfl rfl)
theorem dX0_sow_99 : decode cX0_sow 99 = .ok (.iconst 5, 1) := dk_8 (dk_at dksX0_sow_4 3 rfl rfl)
theorem dX0_sow_100 : decode cX0_sow 100 = .ok (.idiv, 1) := dk_108 (dk_at dksX0_sow_4 4 rfl rfl)
theorem dX0_sow_101 : decode cX0_sow 101 = .ok (.invokevirtual 340, 3) := dk_182 1 84 (dk_at dksX0_sow_4 5 rfl rfl)
theorem dX0_sow_104 : decode cX0_sow 104 = .ok (.i2l, 1) := dk_133 (dk_at dksX0_sow_4 8 rfl rfl)
theorem dX0_sow_105 : decode cX0_sow 105 = .ok (.ladd, 1) := dk_97 (dk_at dksX0_sow_4 9 rfl rfl)
theorem dX0_sow_106 : decode cX0_sow 106 = .ok (.lastore, 1) := dk_80 (dk_at dksX0_sow_4 10 rfl rfl)
theorem dX0_sow_107 : decode cX0_sow 107 = .ok (.iinc 4 1, 3) := dk_132 4 1 (dk_at dksX0_sow_4 11 rfl rfl)
theorem dX0_sow_110 : decode cX0_sow 110 = .ok (.goto (-36), 3) := dk_167 255 220 (dk_at dksX0_sow_4 14 rfl rfl)
theorem dX0_sow_113 : decode cX0_sow 113 = .ok (.iinc 3 1, 3) := dk_132 3 1 (dk_at dksX0_sow_4 17 rfl rfl)
theorem dX0_sow_116 : decode cX0_sow 116 = .ok (.goto (-59), 3) := dk_167 255 197 (dk_at dksX0_sow_4 20 rfl rfl)
theorem dX0_sow_119 : decode cX0_sow 119 = .ok (.iconst 0, 1) := dk_3 (dk_at dksX0_sow_4 23 rfl rfl)
theorem dX0_sow_120 : decode cX0_sow 120 = .ok (.istore_n 3, 1) := dk_62 (dk_at dksX0_sow_5 0 rfl rfl)
theorem dX0_sow_121 : decode cX0_sow 121 = .ok (.iconst 1, 1) := dk_4 (dk_at dksX0_sow_5 1 rfl rfl)
theorem dX0_sow_122 : decode cX0_sow 122 = .ok (.istore 4, 2) := dk_54 4 (dk_at dksX0_sow_5 2 rfl rfl)
theorem dX0_sow_124 : decode cX0_sow 124 = .ok (.iload 4, 2) := dk_21 4 (dk_at dksX0_sow_5 4 rfl rfl)
theorem dX0_sow_126 : decode cX0_sow 126 = .ok (.iconst 5, 1) := dk_8 (dk_at dksX0_sow_5 6 rfl rfl)
theorem dX0_sow_127 : decode cX0_sow 127 = .ok (.aload_n 0, 1) := dk_42 (dk_at dksX0_sow_5 7 rfl rfl)
theorem dX0_sow_128 : decode cX0_sow 128 = .ok (.getfield 31, 3) := dk_180 0 31 (dk_at dksX0_sow_5 8 rfl rfl)
theorem dX0_sow_131 : decode cX0_sow 131 = .ok (.getfield 182, 3) := dk_180 0 182 (dk_at dksX0_sow_5 11 rfl rfl)
theorem dX0_sow_134 : decode cX0_sow 134 = .ok (.imul, 1) := dk_104 (dk_at dksX0_sow_5 14 rfl rfl)
theorem dX0_sow_135 : decode cX0_sow 135 = .ok (.if_icmp .ge 43, 3) := dk_162 0 43 (dk_at dksX0_sow_5 15 rfl rfl)
theorem dX0_sow_138 : decode cX0_sow 138 = .ok (.iload 4, 2) := dk_21 4 (dk_at dksX0_sow_5 18 rfl rfl)
theorem dX0_sow_140 : decode cX0_sow 140 = .ok (.iconst 5, 1) := dk_8 (dk_at dksX0_sow_5 20 rfl rfl)
theorem dX0_sow_141 : decode cX0_sow 141 = .ok (.irem, 1) := dk_112 (dk_at dksX0_sow_5 21 rfl rfl)
theorem dX0_sow_142 : decode cX0_sow 142 = .ok (.aload_n 0, 1) := dk_42 (dk_at dksX0_sow_5 22 rfl rfl)
theorem dX0_sow_143 : decode cX0_sow 143 = .ok (.getfield 31, 3) := dk_180 0 31 (dk_at dksX0_sow_6 0 rfl rfl)
theorem dX0_sow_146 : decode cX0_sow 146 = .ok (.getfield 159, 3) := dk_180 0 159 (dk_at dksX0_sow_6 3 rfl rfl)
theorem dX0_sow_149 : decode cX0_sow 149 = .ok (.if_icmp .ge 23, 3) := dk_162 0 23 (dk_at dksX0_sow_6 6 rfl rfl)
theorem dX0_sow_152 : decode cX0_sow 152 = .ok (.aload_n 0, 1) := dk_42 (dk_at dksX0_sow_6 9 rfl rfl)
theorem dX0_sow_153 : decode cX0_sow 153 = .ok (.getfield 90, 3) := dk_180 0 90 (dk_at dksX0_sow_6 10 rfl rfl)
theorem dX0_sow_156 : decode cX0_sow 156 = .ok (.iload 4, 2) := dk_21 4 (dk_at dksX0_sow_6 13 rfl rfl)
theorem dX0_sow_158 : decode cX0_sow 158 = .ok (.laload, 1) := dk_47 (dk_at dksX0_sow_6 15 rfl rfl)
theorem dX0_sow_159 : decode cX0_sow 159 = .ok (.aload_n 0, 1) := dk_42 (dk_at dksX0_sow_6 16 rfl rfl)
theorem dX0_sow_160 : decode cX0_sow 160 = .ok (.getfield 90, 3) := dk_180 0 90 (dk_at dksX0_sow_6 17 rfl rfl)
theorem dX0_sow_163 : decode cX0_sow 163 = .ok (.iload_n 3, 1) := dk_29 (dk_at dksX0_sow_6 20 rfl rfl)
theorem dX0_sow_164 : decode cX0_sow 164 = .ok (.laload, 1) := dk_47 (dk_at dksX0_sow_6 21 rfl rfl)
theorem dX0_sow_165 : decode cX0_sow 165 = .ok (.lcmp, 1) := dk_148 (dk_at dksX0_sow_6 22 rfl rfl)
theorem dX0_sow_166 : decode cX0_sow 166 = .ok (.ifCond .ge 6, 3) := dk_156 0 6 (dk_at dksX0_sow_7 0 rfl rfl)
theorem dX0_sow_169 : decode cX0_sow 169 = .ok (.iload 4, 2) := dk_21 4 (dk_at dksX0_sow_7 3 rfl rfl)
theorem dX0_sow_171 : decode cX0_sow 171 = .ok (.istore_n 3, 1) := dk_62 (dk_at dksX0_sow_7 5 rfl rfl)
theorem dX0_sow_172 : decode cX0_sow 172 = .ok (.iinc 4 1, 3) := dk_132 4 1 (dk_at dksX0_sow_7 6 rfl rfl)
theorem dX0_sow_175 : decode cX0_sow 175 = .ok (.goto (-51), 3) := dk_167 255 205 (dk_at dksX0_sow_7 9 rfl rfl)
theorem dX0_sow_178 : decode cX0_sow 178 = .ok (.iload_n 2, 1) := dk_28 (dk_at dksX0_sow_7 12 rfl rfl)
theorem dX0_sow_179 : decode cX0_sow 179 = .ok (.ifCond .ne 9, 3) := dk_154 0 9 (dk_at dksX0_sow_7 13 rfl rfl)
theorem dX0_sow_182 : decode cX0_sow 182 = .ok (.iload_n 3, 1) := dk_29 (dk_at dksX0_sow_7 16 rfl rfl)
theorem dX0_sow_183 : decode cX0_sow 183 = .ok (.iconst 5, 1) := dk_8 (dk_at dksX0_sow_7 17 rfl rfl)
theorem dX0_sow_184 : decode cX0_sow 184 = .ok (.irem, 1) := dk_112 (dk_at dksX0_sow_7 18 rfl rfl)
theorem dX0_sow_185 : decode cX0_sow 185 = .ok (.goto 27, 3) := dk_167 0 27 (dk_at dksX0_sow_7 19 rfl rfl)
theorem dX0_sow_188 : decode cX0_sow 188 = .ok (.iload_n 2, 1) := dk_28 (dk_at dksX0_sow_7 22 rfl rfl)
theorem dX0_sow_189 : decode cX0_sow 189 = .ok (.iconst 1, 1) := dk_4 (dk_at dksX0_sow_7 23 rfl rfl)
theorem dX0_sow_190 : decode cX0_sow 190 = .ok (.if_icmp .ne 9, 3) := dk_160 0 9 (dk_at dksX0_sow_8 0 rfl rfl)
theorem dX0_sow_193 : decode cX0_sow 193 = .ok (.iload_n 3, 1) := dk_29 (dk_at dksX0_sow_8 3 rfl rfl)
theorem dX0_sow_194 : decode cX0_sow 194 = .ok (.iconst 5, 1) := dk_8 (dk_at dksX0_sow_8 4 rfl rfl)
theorem dX0_sow_195 : decode cX0_sow 195 = .ok (.idiv, 1) := dk_108 (dk_at dksX0_sow_8 5 rfl rfl)
theorem dX0_sow_196 : decode cX0_sow 196 = .ok (.goto 16, 3) := dk_167 0 16 (dk_at dksX0_sow_8 6 rfl rfl)
theorem dX0_sow_199 : decode cX0_sow 199 = .ok (.ldc2_w 343, 3) := dk_20 1 87 (dk_at dksX0_sow_8 9 rfl rfl)
theorem dX0_sow_202 : decode cX0_sow 202 = .ok (.aload_n 0, 1) := dk_42 (dk_at dksX0_sow_8 12 rfl rfl)
theorem dX0_sow_203 : decode cX0_sow 203 = .ok (.getfield 90, 3) := dk_180 0 90 (dk_at dksX0_sow_8 13 rfl rfl)
theorem dX0_sow_206 : decode cX0_sow 206 = .ok (.iload_n 3, 1) := dk_29 (dk_at dksX0_sow_8 16 rfl rfl)
theorem dX0_sow_207 : decode cX0_sow 207 = .ok (.laload, 1) := dk_47 (dk_at dksX0_sow_8 17 rfl rfl)
theorem dX0_sow_208 : decode cX0_sow 208 = .ok (.invokestatic 7, 3) := dk_184 0 7 (dk_at dksX0_sow_8 18 rfl rfl)
theorem dX0_sow_211 : decode cX0_sow 211 = .ok (.l2i, 1) := dk_136 (dk_at dksX0_sow_8 21 rfl rfl)
theorem dX0_sow_212 : decode cX0_sow 212 = .ok (.ireturn, 1) := dk_172 (dk_at dksX0_sow_8 22 rfl rfl)
abbrev cX0_deeper : ByteArray := prog_1_method_44_code
def yX0_deeper : MethodName := ⟨RX0, "deeper", "(III)J"⟩
def dkwX0_deeper_4 : List UInt8 := [180, 0, 31, 180, 1, 89, 4, 46, 182, 1, 92, 87, 42, 180, 0, 87, 182, 0, 221, 21, 4, 100, 133, 173]
abbrev dktX0_deeper_4 : List UInt8 := dkwX0_deeper_4 ++ []
def dkwX0_deeper_3 : List UInt8 := [28, 167, 0, 12, 42, 180, 0, 31, 180, 1, 89, 3, 46, 27, 4, 160, 0, 7, 28, 167, 0, 12, 42]
abbrev dktX0_deeper_3 : List UInt8 := dkwX0_deeper_3 ++ dktX0_deeper_4
def dkwX0_deeper_2 : List UInt8 := [182, 1, 77, 182, 0, 221, 54, 4, 42, 180, 0, 87, 42, 180, 0, 83, 182, 1, 35, 29, 27, 154, 0, 7]
abbrev dktX0_deeper_2 : List UInt8 := dkwX0_deeper_2 ++ dktX0_deeper_3
def dkwX0_deeper_1 : List UInt8 := [182, 1, 74, 154, 0, 7, 20, 1, 51, 173, 42, 180, 0, 87, 42, 180, 0, 83, 182, 1, 35, 29]
abbrev dktX0_deeper_1 : List UInt8 := dkwX0_deeper_1 ++ dktX0_deeper_2
def dkwX0_deeper_0 : List UInt8 := [27, 3, 4, 184, 0, 178, 153, 0, 23, 28, 4, 5, 184, 0, 178, 153, 0, 14, 42, 29, 3, 16, 20]
abbrev dktX0_deeper_0 : List UInt8 := dkwX0_deeper_0 ++ dktX0_deeper_1
theorem dksX0_deeper_0 : cX0_deeper.data.toList.drop 0 = dktX0_deeper_0 := by decide +kernel
theorem dksX0_deeper_1 : cX0_deeper.data.toList.drop 23 = dktX0_deeper_1 := dk_seg dksX0_deeper_0 23 rfl rfl
theorem dksX0_deeper_2 : cX0_deeper.data.toList.drop 45 = dktX0_deeper_2 := dk_seg dksX0_deeper_1 22 rfl rfl
theorem dksX0_deeper_3 : cX0_deeper.data.toList.drop 69 = dktX0_deeper_3 := dk_seg dksX0_deeper_2 24 rfl rfl
theorem dksX0_deeper_4 : cX0_deeper.data.toList.drop 92 = dktX0_deeper_4 := dk_seg dksX0_deeper_3 23 rfl rfl
theorem dX0_deeper_0 : decode cX0_deeper 0 = .ok (.iload_n 1, 1) := dk_27 (dk_at dksX0_deeper_0 0 rfl rfl)
theorem dX0_deeper_1 : decode cX0_deeper 1 = .ok (.iconst 0, 1) := dk_3 (dk_at dksX0_deeper_0 1 rfl rfl)
theorem dX0_deeper_2 : decode cX0_deeper 2 = .ok (.iconst 1, 1) := dk_4 (dk_at dksX0_deeper_0 2 rfl rfl)
theorem dX0_deeper_3 : decode cX0_deeper 3 = .ok (.invokestatic 178, 3) := dk_184 0 178 (dk_at dksX0_deeper_0 3 rfl rfl)
theorem dX0_deeper_6 : decode cX0_deeper 6 = .ok (.ifCond .eq 23, 3) := dk_153 0 23 (dk_at dksX0_deeper_0 6 rfl rfl)
theorem dX0_deeper_9 : decode cX0_deeper 9 = .ok (.iload_n 2, 1) := dk_28 (dk_at dksX0_deeper_0 9 rfl rfl)
theorem dX0_deeper_10 : decode cX0_deeper 10 = .ok (.iconst 1, 1) := dk_4 (dk_at dksX0_deeper_0 10 rfl rfl)
theorem dX0_deeper_11 : decode cX0_deeper 11 = .ok (.iconst 2, 1) := dk_5 (dk_at dksX0_deeper_0 11 rfl rfl)
theorem dX0_deeper_12 : decode cX0_deeper 12 = .ok (.invokestatic 178, 3) := dk_184 0 178 (dk_at dksX0_deeper_0 12 rfl rfl)
theorem dX0_deeper_15 : decode cX0_deeper 15 = .ok (.ifCond .eq 14, 3) := dk_153 0 14 (dk_at dksX0_deeper_0 15 rfl rfl)
theorem dX0_deeper_18 : decode cX0_deeper 18 = .ok (.aload_n 0, 1) := dk_42 (dk_at dksX0_deeper_0 18 rfl rfl)
theorem dX0_deeper_19 : decode cX0_deeper 19 = .ok (.iload_n 3, 1) := dk_29 (dk_at dksX0_deeper_0 19 rfl rfl)
theorem dX0_deeper_20 : decode cX0_deeper 20 = .ok (.iconst 0, 1) := dk_3 (dk_at dksX0_deeper_0 20 rfl rfl)
theorem dX0_deeper_21 : decode cX0_deeper 21 = .ok (.bipush 20, 2) := dk_16 20 (dk_at dksX0_deeper_0 21 rfl rfl)
theorem dX0_deeper_23 : decode cX0_deeper 23 = .ok (.invokevirtual 330, 3) := dk_182 1 74 (dk_at dksX0_deeper_1 0 rfl rfl)
theorem dX0_deeper_26 : decode cX0_deeper 26 = .ok (.ifCond .ne 7, 3) := dk_154 0 7 (dk_at dksX0_deeper_1 3 rfl rfl)
theorem dX0_deeper_29 : decode cX0_deeper 29 = .ok (.ldc2_w 307, 3) := dk_20 1 51 (dk_at dksX0_deeper_1 6 rfl rfl)
theorem dX0_deeper_32 : decode cX0_deeper 32 = .ok (.lreturn, 1) := dk_173 (dk_at dksX0_deeper_1 9 rfl rfl)
theorem dX0_deeper_33 : decode cX0_deeper 33 = .ok (.aload_n 0, 1) := dk_42 (dk_at dksX0_deeper_1 10 rfl rfl)
theorem dX0_deeper_34 : decode cX0_deeper 34 = .ok (.getfield 87, 3) := dk_180 0 87 (dk_at dksX0_deeper_1 11 rfl rfl)
theorem dX0_deeper_37 : decode cX0_deeper 37 = .ok (.aload_n 0, 1) := dk_42 (dk_at dksX0_deeper_1 14 rfl rfl)
theorem dX0_deeper_38 : decode cX0_deeper 38 = .ok (.getfield 83, 3) := dk_180 0 83 (dk_at dksX0_deeper_1 15 rfl rfl)
theorem dX0_deeper_41 : decode cX0_deeper 41 = .ok (.invokevirtual 291, 3) := dk_182 1 35 (dk_at dksX0_deeper_1 18 rfl rfl)
theorem dX0_deeper_44 : decode cX0_deeper 44 = .ok (.iload_n 3, 1) := dk_29 (dk_at dksX0_deeper_1 21 rfl rfl)
theorem dX0_deeper_45 : decode cX0_deeper 45 = .ok (.invokevirtual 333, 3) := dk_182 1 77 (dk_at dksX0_deeper_2 0 rfl rfl)
theorem dX0_deeper_48 : decode cX0_deeper 48 = .ok (.invokevirtual 221, 3) := dk_182 0 221 (dk_at dksX0_deeper_2 3 rfl rfl)
theorem dX0_deeper_51 : decode cX0_deeper 51 = .ok (.istore 4, 2) := dk_54 4 (dk_at dksX0_deeper_2 6 rfl rfl)
theorem dX0_deeper_53 : decode cX0_deeper 53 = .ok (.aload_n 0, 1) := dk_42 (dk_at dksX0_deeper_2 8 rfl rfl)
theorem dX0_deeper_54 : decode cX0_deeper 54 = .ok (.getfield 87, 3) := dk_180 0 87 (dk_at dksX0_deeper_2 9 rfl rfl)
theorem dX0_deeper_57 : decode cX0_deeper 57 = .ok (.aload_n 0, 1) := dk_42 (dk_at dksX0_deeper_2 12 rfl rfl)
theorem dX0_deeper_58 : decode cX0_deeper 58 = .ok (.getfield 83, 3) := dk_180 0 83 (dk_at dksX0_deeper_2 13 rfl rfl)
theorem dX0_deeper_61 : decode cX0_deeper 61 = .ok (.invokevirtual 291, 3) := dk_182 1 35 (dk_at dksX0_deeper_2 16 rfl rfl)
theorem dX0_deeper_64 : decode cX0_deeper 64 = .ok (.iload_n 3, 1) := dk_29 (dk_at dksX0_deeper_2 19 rfl rfl)
theorem dX0_deeper_65 : decode cX0_deeper 65 = .ok (.iload_n 1, 1) := dk_27 (dk_at dksX0_deeper_2 20 rfl rfl)
theorem dX0_deeper_66 : decode cX0_deeper 66 = .ok (.ifCond .ne 7, 3) := dk_154 0 7 (dk_at dksX0_deeper_2 21 rfl rfl)
theorem dX0_deeper_69 : decode cX0_deeper 69 = .ok (.iload_n 2, 1) := dk_28 (dk_at dksX0_deeper_3 0 rfl rfl)
theorem dX0_deeper_70 : decode cX0_deeper 70 = .ok (.goto 12, 3) := dk_167 0 12 (dk_at dksX0_deeper_3 1 rfl rfl)
theorem dX0_deeper_73 : decode cX0_deeper 73 = .ok (.aload_n 0, 1) := dk_42 (dk_at dksX0_deeper_3 4 rfl rfl)
theorem dX0_deeper_74 : decode cX0_deeper 74 = .ok (.getfield 31, 3) := dk_180 0 31 (dk_at dksX0_deeper_3 5 rfl rfl)
theorem dX0_deeper_77 : decode cX0_deeper 77 = .ok (.getfield 345, 3) := dk_180 1 89 (dk_at dksX0_deeper_3 8 rfl rfl)
theorem dX0_deeper_80 : decode cX0_deeper 80 = .ok (.iconst 0, 1) := dk_3 (dk_at dksX0_deeper_3 11 rfl rfl)
theorem dX0_deeper_81 : decode cX0_deeper 81 = .ok (.iaload, 1) := dk_46 (dk_at dksX0_deeper_3 12 rfl rfl)
theorem dX0_deeper_82 : decode cX0_deeper 82 = .ok (.iload_n 1, 1) := dk_27 (dk_at dksX0_deeper_3 13 rfl rfl)
theorem dX0_deeper_83 : decode cX0_deeper 83 = .ok (.iconst 1, 1) := dk_4 (dk_at dksX0_deeper_3 14 rfl rfl)
theorem dX0_deeper_84 : decode cX0_deeper 84 = .ok (.if_icmp .ne 7, 3) := dk_160 0 7 (dk_at dksX0_deeper_3 15 rfl rfl)
theorem dX0_deeper_87 : decode cX0_deeper 87 = .ok (.iload_n 2, 1) := dk_28 (dk_at dksX0_deeper_3 18 rfl rfl)
theorem dX0_deeper_88 : decode cX0_deeper 88 = .ok (.goto 12, 3) := dk_167 0 12 (dk_at dksX0_deeper_3 19 rfl rfl)
theorem dX0_deeper_91 : decode cX0_deeper 91 = .ok (.aload_n 0, 1) := dk_42 (dk_at dksX0_deeper_3 22 rfl rfl)
theorem dX0_deeper_92 : decode cX0_deeper 92 = .ok (.getfield 31, 3) := dk_180 0 31 (dk_at dksX0_deeper_4 0 rfl rfl)
theorem dX0_deeper_95 : decode cX0_deeper 95 = .ok (.getfield 345, 3) := dk_180 1 89 (dk_at dksX0_deeper_4 3 rfl rfl)
theorem dX0_deeper_98 : decode cX0_deeper 98 = .ok (.iconst 1, 1) := dk_4 (dk_at dksX0_deeper_4 6 rfl rfl)
theorem dX0_deeper_99 : decode cX0_deeper 99 = .ok (.iaload, 1) := dk_46 (dk_at dksX0_deeper_4 7 rfl rfl)
theorem dX0_deeper_100 : decode cX0_deeper 100 = .ok (.invokevirtual 348, 3) := dk_182 1 92 (dk_at dksX0_deeper_4 8 rfl rfl)
theorem dX0_deeper_103 : decode cX0_deeper 103 = .ok (.pop, 1) := dk_87 (dk_at dksX0_deeper_4 11 rfl rfl)
theorem dX0_deeper_104 : decode cX0_deeper 104 = .ok (.aload_n 0, 1) := dk_42 (dk_at dksX0_deeper_4 12 rfl rfl)
theorem dX0_deeper_105 : decode cX0_deeper 105 = .ok (.getfield 87, 3) := dk_180 0 87 (dk_at dksX0_deeper_4 13 rfl rfl)
theorem dX0_deeper_108 : decode cX0_deeper 108 = .ok (.invokevirtual 221, 3) := dk_182 0 221 (dk_at dksX0_deeper_4 16 rfl rfl)
theorem dX0_deeper_111 : decode cX0_deeper 111 = .ok (.iload 4, 2) := dk_21 4 (dk_at dksX0_deeper_4 19 rfl rfl)
theorem dX0_deeper_113 : decode cX0_deeper 113 = .ok (.isub, 1) := dk_100 (dk_at dksX0_deeper_4 21 rfl rfl)
theorem dX0_deeper_114 : decode cX0_deeper 114 = .ok (.i2l, 1) := dk_133 (dk_at dksX0_deeper_4 22 rfl rfl)
theorem dX0_deeper_115 : decode cX0_deeper 115 = .ok (.lreturn, 1) := dk_173 (dk_at dksX0_deeper_4 23 rfl rfl)
abbrev cX0_see : ByteArray := prog_1_method_47_code
def yX0_see : MethodName := ⟨RX0, "see", "()I"⟩
def dkwX0_see_5 : List UInt8 := [167, 255, 217, 42, 180, 0, 153, 172]
abbrev dktX0_see_5 : List UInt8 := dkwX0_see_5 ++ []
def dkwX0_see_4 : List UInt8 := [182, 1, 95, 79, 42, 180, 0, 97, 29, 42, 6, 29, 104, 4, 96, 182, 1, 98, 79, 132, 3, 1]
abbrev dktX0_see_4 : List UInt8 := dkwX0_see_4 ++ dktX0_see_5
def dkwX0_see_3 : List UInt8 := [181, 0, 153, 3, 62, 29, 42, 180, 0, 153, 162, 0, 37, 42, 180, 0, 94, 29, 42, 6, 29, 104]
abbrev dktX0_see_3 : List UInt8 := dkwX0_see_3 ++ dktX0_see_4
def dkwX0_see_2 : List UInt8 := [182, 0, 255, 61, 132, 3, 3, 167, 255, 234, 28, 154, 0, 9, 42, 4, 182, 0, 120, 172, 42, 27, 6, 108]
abbrev dktX0_see_2 : List UInt8 := dkwX0_see_2 ++ dktX0_see_3
def dkwX0_see_1 : List UInt8 := [167, 0, 4, 3, 61, 3, 62, 29, 27, 162, 0, 23, 28, 153, 0, 19, 42, 42, 29, 182, 1, 95]
abbrev dktX0_see_1 : List UInt8 := dkwX0_see_1 ++ dktX0_see_2
def dkwX0_see_0 : List UInt8 := [42, 182, 0, 131, 60, 27, 158, 0, 19, 27, 6, 112, 154, 0, 13, 27, 16, 48, 163, 0, 7, 4]
abbrev dktX0_see_0 : List UInt8 := dkwX0_see_0 ++ dktX0_see_1
theorem dksX0_see_0 : cX0_see.data.toList.drop 0 = dktX0_see_0 := by decide +kernel
theorem dksX0_see_1 : cX0_see.data.toList.drop 22 = dktX0_see_1 := dk_seg dksX0_see_0 22 rfl rfl
theorem dksX0_see_2 : cX0_see.data.toList.drop 44 = dktX0_see_2 := dk_seg dksX0_see_1 22 rfl rfl
theorem dksX0_see_3 : cX0_see.data.toList.drop 68 = dktX0_see_3 := dk_seg dksX0_see_2 24 rfl rfl
theorem dksX0_see_4 : cX0_see.data.toList.drop 90 = dktX0_see_4 := dk_seg dksX0_see_3 22 rfl rfl
theorem dksX0_see_5 : cX0_see.data.toList.drop 112 = dktX0_see_5 := dk_seg dksX0_see_4 22 rfl rfl
theorem dX0_see_0 : decode cX0_see 0 = .ok (.aload_n 0, 1) := dk_42 (dk_at dksX0_see_0 0 rfl rfl)
theorem dX0_see_1 : decode cX0_see 1 = .ok (.invokevirtual 131, 3) := dk_182 0 131 (dk_at dksX0_see_0 1 rfl rfl)
theorem dX0_see_4 : decode cX0_see 4 = .ok (.istore_n 1, 1) := dk_60 (dk_at dksX0_see_0 4 rfl rfl)
theorem dX0_see_5 : decode cX0_see 5 = .ok (.iload_n 1, 1) := dk_27 (dk_at dksX0_see_0 5 rfl rfl)
theorem dX0_see_6 : decode cX0_see 6 = .ok (.ifCond .le 19, 3) := dk_158 0 19 (dk_at dksX0_see_0 6 rfl rfl)
theorem dX0_see_9 : decode cX0_see 9 = .ok (.iload_n 1, 1) := dk_27 (dk_at dksX0_see_0 9 rfl rfl)
theorem dX0_see_10 : decode cX0_see 10 = .ok (.iconst 3, 1) := dk_6 (dk_at dksX0_see_0 10 rfl rfl)
theorem dX0_see_11 : decode cX0_see 11 = .ok (.irem, 1) := dk_112 (dk_at dksX0_see_0 11 rfl rfl)
theorem dX0_see_12 : decode cX0_see 12 = .ok (.ifCond .ne 13, 3) := dk_154 0 13 (dk_at dksX0_see_0 12 rfl rfl)
theorem dX0_see_15 : decode cX0_see 15 = .ok (.iload_n 1, 1) := dk_27 (dk_at dksX0_see_0 15 rfl rfl)
theorem dX0_see_16 : decode cX0_see 16 = .ok (.bipush 48, 2) := dk_16 48 (dk_at dksX0_see_0 16 rfl rfl)
theorem dX0_see_18 : decode cX0_see 18 = .ok (.if_icmp .gt 7, 3) := dk_163 0 7 (dk_at dksX0_see_0 18 rfl rfl)
theorem dX0_see_21 : decode cX0_see 21 = .ok (.iconst 1, 1) := dk_4 (dk_at dksX0_see_0 21 rfl rfl)
theorem dX0_see_22 : decode cX0_see 22 = .ok (.goto 4, 3) := dk_167 0 4 (dk_at dksX0_see_1 0 rfl rfl)
theorem dX0_see_25 : decode cX0_see 25 = .ok (.iconst 0, 1) := dk_3 (dk_at dksX0_see_1 3 rfl rfl)
theorem dX0_see_26 : decode cX0_see 26 = .ok (.istore_n 2, 1) := dk_61 (dk_at dksX0_see_1 4 rfl rfl)
theorem dX0_see_27 : decode cX0_see 27 = .ok (.iconst 0, 1) := dk_3 (dk_at dksX0_see_1 5 rfl rfl)
theorem dX0_see_28 : decode cX0_see 28 = .ok (.istore_n 3, 1) := dk_62 (dk_at dksX0_see_1 6 rfl rfl)
theorem dX0_see_29 : decode cX0_see 29 = .ok (.iload_n 3, 1) := dk_29 (dk_at dksX0_see_1 7 rfl rfl)
theorem dX0_see_30 : decode cX0_see 30 = .ok (.iload_n 1, 1) := dk_27 (dk_at dksX0_see_1 8 rfl rfl)
theorem dX0_see_31 : decode cX0_see 31 = .ok (.if_icmp .ge 23, 3) := dk_162 0 23 (dk_at dksX0_see_1 9 rfl rfl)
theorem dX0_see_34 : decode cX0_see 34 = .ok (.iload_n 2, 1) := dk_28 (dk_at dksX0_see_1 12 rfl rfl)
theorem dX0_see_35 : decode cX0_see 35 = .ok (.ifCond .eq 19, 3) := dk_153 0 19 (dk_at dksX0_see_1 13 rfl rfl)
theorem dX0_see_38 : decode cX0_see 38 = .ok (.aload_n 0, 1) := dk_42 (dk_at dksX0_see_1 16 rfl rfl)
theorem dX0_see_39 : decode cX0_see 39 = .ok (.aload_n 0, 1) := dk_42 (dk_at dksX0_see_1 17 rfl rfl)
theorem dX0_see_40 : decode cX0_see 40 = .ok (.iload_n 3, 1) := dk_29 (dk_at dksX0_see_1 18 rfl rfl)
theorem dX0_see_41 : decode cX0_see 41 = .ok (.invokevirtual 351, 3) := dk_182 1 95 (dk_at dksX0_see_1 19 rfl rfl)
theorem dX0_see_44 : decode cX0_see 44 = .ok (.invokevirtual 255, 3) := dk_182 0 255 (dk_at dksX0_see_2 0 rfl rfl)
theorem dX0_see_47 : decode cX0_see 47 = .ok (.istore_n 2, 1) := dk_61 (dk_at dksX0_see_2 3 rfl rfl)
theorem dX0_see_48 : decode cX0_see 48 = .ok (.iinc 3 3, 3) := dk_132 3 3 (dk_at dksX0_see_2 4 rfl rfl)
theorem dX0_see_51 : decode cX0_see 51 = .ok (.goto (-22), 3) := dk_167 255 234 (dk_at dksX0_see_2 7 rfl rfl)
theorem dX0_see_54 : decode cX0_see 54 = .ok (.iload_n 2, 1) := dk_28 (dk_at dksX0_see_2 10 rfl rfl)
theorem dX0_see_55 : decode cX0_see 55 = .ok (.ifCond .ne 9, 3) := dk_154 0 9 (dk_at dksX0_see_2 11 rfl rfl)
theorem dX0_see_58 : decode cX0_see 58 = .ok (.aload_n 0, 1) := dk_42 (dk_at dksX0_see_2 14 rfl rfl)
theorem dX0_see_59 : decode cX0_see 59 = .ok (.iconst 1, 1) := dk_4 (dk_at dksX0_see_2 15 rfl rfl)
theorem dX0_see_60 : decode cX0_see 60 = .ok (.invokevirtual 120, 3) := dk_182 0 120 (dk_at dksX0_see_2 16 rfl rfl)
theorem dX0_see_63 : decode cX0_see 63 = .ok (.ireturn, 1) := dk_172 (dk_at dksX0_see_2 19 rfl rfl)
theorem dX0_see_64 : decode cX0_see 64 = .ok (.aload_n 0, 1) := dk_42 (dk_at dksX0_see_2 20 rfl rfl)
theorem dX0_see_65 : decode cX0_see 65 = .ok (.iload_n 1, 1) := dk_27 (dk_at dksX0_see_2 21 rfl rfl)
theorem dX0_see_66 : decode cX0_see 66 = .ok (.iconst 3, 1) := dk_6 (dk_at dksX0_see_2 22 rfl rfl)
theorem dX0_see_67 : decode cX0_see 67 = .ok (.idiv, 1) := dk_108 (dk_at dksX0_see_2 23 rfl rfl)
theorem dX0_see_68 : decode cX0_see 68 = .ok (.putfield 153, 3) := dk_181 0 153 (dk_at dksX0_see_3 0 rfl rfl)
theorem dX0_see_71 : decode cX0_see 71 = .ok (.iconst 0, 1) := dk_3 (dk_at dksX0_see_3 3 rfl rfl)
theorem dX0_see_72 : decode cX0_see 72 = .ok (.istore_n 3, 1) := dk_62 (dk_at dksX0_see_3 4 rfl rfl)
theorem dX0_see_73 : decode cX0_see 73 = .ok (.iload_n 3, 1) := dk_29 (dk_at dksX0_see_3 5 rfl rfl)
theorem dX0_see_74 : decode cX0_see 74 = .ok (.aload_n 0, 1) := dk_42 (dk_at dksX0_see_3 6 rfl rfl)
theorem dX0_see_75 : decode cX0_see 75 = .ok (.getfield 153, 3) := dk_180 0 153 (dk_at dksX0_see_3 7 rfl rfl)
theorem dX0_see_78 : decode cX0_see 78 = .ok (.if_icmp .ge 37, 3) := dk_162 0 37 (dk_at dksX0_see_3 10 rfl rfl)
theorem dX0_see_81 : decode cX0_see 81 = .ok (.aload_n 0, 1) := dk_42 (dk_at dksX0_see_3 13 rfl rfl)
theorem dX0_see_82 : decode cX0_see 82 = .ok (.getfield 94, 3) := dk_180 0 94 (dk_at dksX0_see_3 14 rfl rfl)
theorem dX0_see_85 : decode cX0_see 85 = .ok (.iload_n 3, 1) := dk_29 (dk_at dksX0_see_3 17 rfl rfl)
theorem dX0_see_86 : decode cX0_see 86 = .ok (.aload_n 0, 1) := dk_42 (dk_at dksX0_see_3 18 rfl rfl)
theorem dX0_see_87 : decode cX0_see 87 = .ok (.iconst 3, 1) := dk_6 (dk_at dksX0_see_3 19 rfl rfl)
theorem dX0_see_88 : decode cX0_see 88 = .ok (.iload_n 3, 1) := dk_29 (dk_at dksX0_see_3 20 rfl rfl)
theorem dX0_see_89 : decode cX0_see 89 = .ok (.imul, 1) := dk_104 (dk_at dksX0_see_3 21 rfl rfl)
theorem dX0_see_90 : decode cX0_see 90 = .ok (.invokevirtual 351, 3) := dk_182 1 95 (dk_at dksX0_see_4 0 rfl rfl)
theorem dX0_see_93 : decode cX0_see 93 = .ok (.iastore, 1) := dk_79 (dk_at dksX0_see_4 3 rfl rfl)
theorem dX0_see_94 : decode cX0_see 94 = .ok (.aload_n 0, 1) := dk_42 (dk_at dksX0_see_4 4 rfl rfl)
theorem dX0_see_95 : decode cX0_see 95 = .ok (.getfield 97, 3) := dk_180 0 97 (dk_at dksX0_see_4 5 rfl rfl)
theorem dX0_see_98 : decode cX0_see 98 = .ok (.iload_n 3, 1) := dk_29 (dk_at dksX0_see_4 8 rfl rfl)
theorem dX0_see_99 : decode cX0_see 99 = .ok (.aload_n 0, 1) := dk_42 (dk_at dksX0_see_4 9 rfl rfl)
theorem dX0_see_100 : decode cX0_see 100 = .ok (.iconst 3, 1) := dk_6 (dk_at dksX0_see_4 10 rfl rfl)
theorem dX0_see_101 : decode cX0_see 101 = .ok (.iload_n 3, 1) := dk_29 (dk_at dksX0_see_4 11 rfl rfl)
theorem dX0_see_102 : decode cX0_see 102 = .ok (.imul, 1) := dk_104 (dk_at dksX0_see_4 12 rfl rfl)
theorem dX0_see_103 : decode cX0_see 103 = .ok (.iconst 1, 1) := dk_4 (dk_at dksX0_see_4 13 rfl rfl)
theorem dX0_see_104 : decode cX0_see 104 = .ok (.iadd, 1) := dk_96 (dk_at dksX0_see_4 14 rfl rfl)
theorem dX0_see_105 : decode cX0_see 105 = .ok (.invokevirtual 354, 3) := dk_182 1 98 (dk_at dksX0_see_4 15 rfl rfl)
theorem dX0_see_108 : decode cX0_see 108 = .ok (.iastore, 1) := dk_79 (dk_at dksX0_see_4 18 rfl rfl)
theorem dX0_see_109 : decode cX0_see 109 = .ok (.iinc 3 1, 3) := dk_132 3 1 (dk_at dksX0_see_4 19 rfl rfl)
theorem dX0_see_112 : decode cX0_see 112 = .ok (.goto (-39), 3) := dk_167 255 217 (dk_at dksX0_see_5 0 rfl rfl)
theorem dX0_see_115 : decode cX0_see 115 = .ok (.aload_n 0, 1) := dk_42 (dk_at dksX0_see_5 3 rfl rfl)
theorem dX0_see_116 : decode cX0_see 116 = .ok (.getfield 153, 3) := dk_180 0 153 (dk_at dksX0_see_5 4 rfl rfl)
theorem dX0_see_119 : decode cX0_see 119 = .ok (.ireturn, 1) := dk_172 (dk_at dksX0_see_5 7 rfl rfl)
abbrev cX0_byteAt : ByteArray := prog_1_method_45_code
def yX0_byteAt : MethodName := ⟨RX0, "byteAt", "(I)I"⟩
def dkwX0_byteAt_0 : List UInt8 := [42, 180, 0, 35, 27, 51, 17, 0, 255, 126, 172]
abbrev dktX0_byteAt_0 : List UInt8 := dkwX0_byteAt_0 ++ []
theorem dksX0_byteAt_0 : cX0_byteAt.data.toList.drop 0 = dktX0_byteAt_0 := by decide +kernel
theorem dX0_byteAt_0 : decode cX0_byteAt 0 = .ok (.aload_n 0, 1) := dk_42 (dk_at dksX0_byteAt_0 0 rfl rfl)
theorem dX0_byteAt_1 : decode cX0_byteAt 1 = .ok (.getfield 35, 3) := dk_180 0 35 (dk_at dksX0_byteAt_0 1 rfl rfl)
theorem dX0_byteAt_4 : decode cX0_byteAt 4 = .ok (.iload_n 1, 1) := dk_27 (dk_at dksX0_byteAt_0 4 rfl rfl)
theorem dX0_byteAt_5 : decode cX0_byteAt 5 = .ok (.baload, 1) := dk_51 (dk_at dksX0_byteAt_0 5 rfl rfl)
theorem dX0_byteAt_6 : decode cX0_byteAt 6 = .ok (.sipush 255, 3) := dk_17 0 255 (dk_at dksX0_byteAt_0 6 rfl rfl)
theorem dX0_byteAt_9 : decode cX0_byteAt 9 = .ok (.iand, 1) := dk_126 (dk_at dksX0_byteAt_0 9 rfl rfl)
theorem dX0_byteAt_10 : decode cX0_byteAt 10 = .ok (.ireturn, 1) := dk_172 (dk_at dksX0_byteAt_0 10 rfl rfl)
abbrev cX0_twoAt : ByteArray := prog_1_method_46_code
def yX0_twoAt : MethodName := ⟨RX0, "twoAt", "(I)I"⟩
def dkwX0_twoAt_0 : List UInt8 := [42, 27, 182, 1, 95, 16, 8, 120, 42, 27, 4, 96, 182, 1, 95, 128, 172]
abbrev dktX0_twoAt_0 : List UInt8 := dkwX0_twoAt_0 ++ []
theorem dksX0_twoAt_0 : cX0_twoAt.data.toList.drop 0 = dktX0_twoAt_0 := by decide +kernel
theorem dX0_twoAt_0 : decode cX0_twoAt 0 = .ok (.aload_n 0, 1) := dk_42 (dk_at dksX0_twoAt_0 0 rfl rfl)
theorem dX0_twoAt_1 : decode cX0_twoAt 1 = .ok (.iload_n 1, 1) := dk_27 (dk_at dksX0_twoAt_0 1 rfl rfl)
theorem dX0_twoAt_2 : decode cX0_twoAt 2 = .ok (.invokevirtual 351, 3) := dk_182 1 95 (dk_at dksX0_twoAt_0 2 rfl rfl)
theorem dX0_twoAt_5 : decode cX0_twoAt 5 = .ok (.bipush 8, 2) := dk_16 8 (dk_at dksX0_twoAt_0 5 rfl rfl)
theorem dX0_twoAt_7 : decode cX0_twoAt 7 = .ok (.ishl, 1) := dk_120 (dk_at dksX0_twoAt_0 7 rfl rfl)
theorem dX0_twoAt_8 : decode cX0_twoAt 8 = .ok (.aload_n 0, 1) := dk_42 (dk_at dksX0_twoAt_0 8 rfl rfl)
theorem dX0_twoAt_9 : decode cX0_twoAt 9 = .ok (.iload_n 1, 1) := dk_27 (dk_at dksX0_twoAt_0 9 rfl rfl)
theorem dX0_twoAt_10 : decode cX0_twoAt 10 = .ok (.iconst 1, 1) := dk_4 (dk_at dksX0_twoAt_0 10 rfl rfl)
theorem dX0_twoAt_11 : decode cX0_twoAt 11 = .ok (.iadd, 1) := dk_96 (dk_at dksX0_twoAt_0 11 rfl rfl)
theorem dX0_twoAt_12 : decode cX0_twoAt 12 = .ok (.invokevirtual 351, 3) := dk_182 1 95 (dk_at dksX0_twoAt_0 12 rfl rfl)
theorem dX0_twoAt_15 : decode cX0_twoAt 15 = .ok (.ior, 1) := dk_128 (dk_at dksX0_twoAt_0 15 rfl rfl)
theorem dX0_twoAt_16 : decode cX0_twoAt 16 = .ok (.ireturn, 1) := dk_172 (dk_at dksX0_twoAt_0 16 rfl rfl)
abbrev cX0_played : ByteArray := prog_1_method_49_code
def yX0_played : MethodName := ⟨RX0, "played", "(I)I"⟩
def dkwX0_played_3 : List UInt8 := [154, 0, 7, 28, 167, 0, 14, 27, 4, 160, 0, 7, 29, 167, 0, 5, 21, 4, 172]
abbrev dktX0_played_3 : List UInt8 := dkwX0_played_3 ++ []
def dkwX0_played_2 : List UInt8 := [154, 0, 8, 21, 6, 167, 0, 4, 29, 62, 21, 6, 54, 4, 132, 2, 1, 132, 6, 1, 167, 255, 216, 27]
abbrev dktX0_played_2 : List UInt8 := dkwX0_played_2 ++ dktX0_played_3
def dkwX0_played_1 : List UInt8 := [3, 54, 6, 21, 6, 21, 5, 162, 0, 39, 42, 21, 6, 182, 1, 101, 154, 0, 6, 167, 0, 21, 28]
abbrev dktX0_played_1 : List UInt8 := dkwX0_played_1 ++ dktX0_played_2
def dkwX0_played_0 : List UInt8 := [27, 3, 5, 184, 0, 178, 154, 0, 5, 2, 172, 3, 61, 2, 62, 2, 54, 4, 42, 182, 1, 29, 54, 5]
abbrev dktX0_played_0 : List UInt8 := dkwX0_played_0 ++ dktX0_played_1
theorem dksX0_played_0 : cX0_played.data.toList.drop 0 = dktX0_played_0 := by decide +kernel
theorem dksX0_played_1 : cX0_played.data.toList.drop 24 = dktX0_played_1 := dk_seg dksX0_played_0 24 rfl rfl
theorem dksX0_played_2 : cX0_played.data.toList.drop 47 = dktX0_played_2 := dk_seg dksX0_played_1 23 rfl rfl
theorem dksX0_played_3 : cX0_played.data.toList.drop 71 = dktX0_played_3 := dk_seg dksX0_played_2 24 rfl rfl
theorem dX0_played_0 : decode cX0_played 0 = .ok (.iload_n 1, 1) := dk_27 (dk_at dksX0_played_0 0 rfl rfl)
theorem dX0_played_1 : decode cX0_played 1 = .ok (.iconst 0, 1) := dk_3 (dk_at dksX0_played_0 1 rfl rfl)
theorem dX0_played_2 : decode cX0_played 2 = .ok (.iconst 2, 1) := dk_5 (dk_at dksX0_played_0 2 rfl rfl)
theorem dX0_played_3 : decode cX0_played 3 = .ok (.invokestatic 178, 3) := dk_184 0 178 (dk_at dksX0_played_0 3 rfl rfl)
theorem dX0_played_6 : decode cX0_played 6 = .ok (.ifCond .ne 5, 3) := dk_154 0 5 (dk_at dksX0_played_0 6 rfl rfl)
theorem dX0_played_9 : decode cX0_played 9 = .ok (.iconst (-1), 1) := dk_2 (dk_at dksX0_played_0 9 rfl rfl)
theorem dX0_played_10 : decode cX0_played 10 = .ok (.ireturn, 1) := dk_172 (dk_at dksX0_played_0 10 rfl rfl)
theorem dX0_played_11 : decode cX0_played 11 = .ok (.iconst 0, 1) := dk_3 (dk_at dksX0_played_0 11 rfl rfl)
theorem dX0_played_12 : decode cX0_played 12 = .ok (.istore_n 2, 1) := dk_61 (dk_at dksX0_played_0 12 rfl rfl)
theorem dX0_played_13 : decode cX0_played 13 = .ok (.iconst (-1), 1) := dk_2 (dk_at dksX0_played_0 13 rfl rfl)
theorem dX0_played_14 : decode cX0_played 14 = .ok (.istore_n 3, 1) := dk_62 (dk_at dksX0_played_0 14 rfl rfl)
theorem dX0_played_15 : decode cX0_played 15 = .ok (.iconst (-1), 1) := dk_2 (dk_at dksX0_played_0 15 rfl rfl)
theorem dX0_played_16 : decode cX0_played 16 = .ok (.istore 4, 2) := dk_54 4 (dk_at dksX0_played_0 16 rfl rfl)
theorem dX0_played_18 : decode cX0_played 18 = .ok (.aload_n 0, 1) := dk_42 (dk_at dksX0_played_0 18 rfl rfl)
theorem dX0_played_19 : decode cX0_played 19 = .ok (.invokevirtual 285, 3) := dk_182 1 29 (dk_at dksX0_played_0 19 rfl rfl)
theorem dX0_played_22 : decode cX0_played 22 = .ok (.istore 5, 2) := dk_54 5 (dk_at dksX0_played_0 22 rfl rfl)
theorem dX0_played_24 : decode cX0_played 24 = .ok (.iconst 0, 1) := dk_3 (dk_at dksX0_played_1 0 rfl rfl)
theorem dX0_played_25 : decode cX0_played 25 = .ok (.istore 6, 2) := dk_54 6 (dk_at dksX0_played_1 1 rfl rfl)
theorem dX0_played_27 : decode cX0_played 27 = .ok (.iload 6, 2) := dk_21 6 (dk_at dksX0_played_1 3 rfl rfl)
theorem dX0_played_29 : decode cX0_played 29 = .ok (.iload 5, 2) := dk_21 5 (dk_at dksX0_played_1 5 rfl rfl)
theorem dX0_played_31 : decode cX0_played 31 = .ok (.if_icmp .ge 39, 3) := dk_162 0 39 (dk_at dksX0_played_1 7 rfl rfl)
theorem dX0_played_34 : decode cX0_played 34 = .ok (.aload_n 0, 1) := dk_42 (dk_at dksX0_played_1 10 rfl rfl)
theorem dX0_played_35 : decode cX0_played 35 = .ok (.iload 6, 2) := dk_21 6 (dk_at dksX0_played_1 11 rfl rfl)
theorem dX0_played_37 : decode cX0_played 37 = .ok (.invokevirtual 357, 3) := dk_182 1 101 (dk_at dksX0_played_1 13 rfl rfl)
theorem dX0_played_40 : decode cX0_played 40 = .ok (.ifCond .ne 6, 3) := dk_154 0 6 (dk_at dksX0_played_1 16 rfl rfl)
theorem dX0_played_43 : decode cX0_played 43 = .ok (.goto 21, 3) := dk_167 0 21 (dk_at dksX0_played_1 19 rfl rfl)
theorem dX0_played_46 : decode cX0_played 46 = .ok (.iload_n 2, 1) := dk_28 (dk_at dksX0_played_1 22 rfl rfl)
theorem dX0_played_47 : decode cX0_played 47 = .ok (.ifCond .ne 8, 3) := dk_154 0 8 (dk_at dksX0_played_2 0 rfl rfl)
theorem dX0_played_50 : decode cX0_played 50 = .ok (.iload 6, 2) := dk_21 6 (dk_at dksX0_played_2 3 rfl rfl)
theorem dX0_played_52 : decode cX0_played 52 = .ok (.goto 4, 3) := dk_167 0 4 (dk_at dksX0_played_2 5 rfl rfl)
theorem dX0_played_55 : decode cX0_played 55 = .ok (.iload_n 3, 1) := dk_29 (dk_at dksX0_played_2 8 rfl rfl)
theorem dX0_played_56 : decode cX0_played 56 = .ok (.istore_n 3, 1) := dk_62 (dk_at dksX0_played_2 9 rfl rfl)
theorem dX0_played_57 : decode cX0_played 57 = .ok (.iload 6, 2) := dk_21 6 (dk_at dksX0_played_2 10 rfl rfl)
theorem dX0_played_59 : decode cX0_played 59 = .ok (.istore 4, 2) := dk_54 4 (dk_at dksX0_played_2 12 rfl rfl)
theorem dX0_played_61 : decode cX0_played 61 = .ok (.iinc 2 1, 3) := dk_132 2 1 (dk_at dksX0_played_2 14 rfl rfl)
theorem dX0_played_64 : decode cX0_played 64 = .ok (.iinc 6 1, 3) := dk_132 6 1 (dk_at dksX0_played_2 17 rfl rfl)
theorem dX0_played_67 : decode cX0_played 67 = .ok (.goto (-40), 3) := dk_167 255 216 (dk_at dksX0_played_2 20 rfl rfl)
theorem dX0_played_70 : decode cX0_played 70 = .ok (.iload_n 1, 1) := dk_27 (dk_at dksX0_played_2 23 rfl rfl)
theorem dX0_played_71 : decode cX0_played 71 = .ok (.ifCond .ne 7, 3) := dk_154 0 7 (dk_at dksX0_played_3 0 rfl rfl)
theorem dX0_played_74 : decode cX0_played 74 = .ok (.iload_n 2, 1) := dk_28 (dk_at dksX0_played_3 3 rfl rfl)
theorem dX0_played_75 : decode cX0_played 75 = .ok (.goto 14, 3) := dk_167 0 14 (dk_at dksX0_played_3 4 rfl rfl)
theorem dX0_played_78 : decode cX0_played 78 = .ok (.iload_n 1, 1) := dk_27 (dk_at dksX0_played_3 7 rfl rfl)
theorem dX0_played_79 : decode cX0_played 79 = .ok (.iconst 1, 1) := dk_4 (dk_at dksX0_played_3 8 rfl rfl)
theorem dX0_played_80 : decode cX0_played 80 = .ok (.if_icmp .ne 7, 3) := dk_160 0 7 (dk_at dksX0_played_3 9 rfl rfl)
theorem dX0_played_83 : decode cX0_played 83 = .ok (.iload_n 3, 1) := dk_29 (dk_at dksX0_played_3 12 rfl rfl)
theorem dX0_played_84 : decode cX0_played 84 = .ok (.goto 5, 3) := dk_167 0 5 (dk_at dksX0_played_3 13 rfl rfl)
theorem dX0_played_87 : decode cX0_played 87 = .ok (.iload 4, 2) := dk_21 4 (dk_at dksX0_played_3 16 rfl rfl)
theorem dX0_played_89 : decode cX0_played 89 = .ok (.ireturn, 1) := dk_172 (dk_at dksX0_played_3 18 rfl rfl)
abbrev cX0_isAsSeen : ByteArray := prog_1_method_48_code
def yX0_isAsSeen : MethodName := ⟨RX0, "isAsSeen", "(I)Z"⟩
def dkwX0_isAsSeen_2 : List UInt8 := [159, 0, 5, 3, 172, 132, 2, 1, 167, 255, 220, 4, 172]
abbrev dktX0_isAsSeen_2 : List UInt8 := dkwX0_isAsSeen_2 ++ []
def dkwX0_isAsSeen_1 : List UInt8 := [162, 0, 34, 42, 180, 0, 87, 180, 1, 10, 42, 180, 0, 94, 28, 46, 46, 42, 180, 0, 97, 28, 46]
abbrev dktX0_isAsSeen_1 : List UInt8 := dkwX0_isAsSeen_1 ++ dktX0_isAsSeen_2
def dkwX0_isAsSeen_0 : List UInt8 := [42, 180, 0, 87, 42, 180, 0, 83, 182, 1, 35, 27, 182, 1, 81, 87, 3, 61, 28, 42, 180, 0, 153]
abbrev dktX0_isAsSeen_0 : List UInt8 := dkwX0_isAsSeen_0 ++ dktX0_isAsSeen_1
theorem dksX0_isAsSeen_0 : cX0_isAsSeen.data.toList.drop 0 = dktX0_isAsSeen_0 := by decide +kernel
theorem dksX0_isAsSeen_1 : cX0_isAsSeen.data.toList.drop 23 = dktX0_isAsSeen_1 := dk_seg dksX0_isAsSeen_0 23 rfl rfl
theorem dksX0_isAsSeen_2 : cX0_isAsSeen.data.toList.drop 46 = dktX0_isAsSeen_2 := dk_seg dksX0_isAsSeen_1 23 rfl rfl
theorem dX0_isAsSeen_0 : decode cX0_isAsSeen 0 = .ok (.aload_n 0, 1) := dk_42 (dk_at dksX0_isAsSeen_0 0 rfl rfl)
theorem dX0_isAsSeen_1 : decode cX0_isAsSeen 1 = .ok (.getfield 87, 3) := dk_180 0 87 (dk_at dksX0_isAsSeen_0 1 rfl rfl)
theorem dX0_isAsSeen_4 : decode cX0_isAsSeen 4 = .ok (.aload_n 0, 1) := dk_42 (dk_at dksX0_isAsSeen_0 4 rfl rfl)
theorem dX0_isAsSeen_5 : decode cX0_isAsSeen 5 = .ok (.getfield 83, 3) := dk_180 0 83 (dk_at dksX0_isAsSeen_0 5 rfl rfl)
theorem dX0_isAsSeen_8 : decode cX0_isAsSeen 8 = .ok (.invokevirtual 291, 3) := dk_182 1 35 (dk_at dksX0_isAsSeen_0 8 rfl rfl)
theorem dX0_isAsSeen_11 : decode cX0_isAsSeen 11 = .ok (.iload_n 1, 1) := dk_27 (dk_at dksX0_isAsSeen_0 11 rfl rfl)
theorem dX0_isAsSeen_12 : decode cX0_isAsSeen 12 = .ok (.invokevirtual 337, 3) := dk_182 1 81 (dk_at dksX0_isAsSeen_0 12 rfl rfl)
theorem dX0_isAsSeen_15 : decode cX0_isAsSeen 15 = .ok (.pop, 1) := dk_87 (dk_at dksX0_isAsSeen_0 15 rfl rfl)
theorem dX0_isAsSeen_16 : decode cX0_isAsSeen 16 = .ok (.iconst 0, 1) := dk_3 (dk_at dksX0_isAsSeen_0 16 rfl rfl)
theorem dX0_isAsSeen_17 : decode cX0_isAsSeen 17 = .ok (.istore_n 2, 1) := dk_61 (dk_at dksX0_isAsSeen_0 17 rfl rfl)
theorem dX0_isAsSeen_18 : decode cX0_isAsSeen 18 = .ok (.iload_n 2, 1) := dk_28 (dk_at dksX0_isAsSeen_0 18 rfl rfl)
theorem dX0_isAsSeen_19 : decode cX0_isAsSeen 19 = .ok (.aload_n 0, 1) := dk_42 (dk_at dksX0_isAsSeen_0 19 rfl rfl)
theorem dX0_isAsSeen_20 : decode cX0_isAsSeen 20 = .ok (.getfield 153, 3) := dk_180 0 153 (dk_at dksX0_isAsSeen_0 20 rfl rfl)
theorem dX0_isAsSeen_23 : decode cX0_isAsSeen 23 = .ok (.if_icmp .ge 34, 3) := dk_162 0 34 (dk_at dksX0_isAsSeen_1 0 rfl rfl)
theorem dX0_isAsSeen_26 : decode cX0_isAsSeen 26 = .ok (.aload_n 0, 1) := dk_42 (dk_at dksX0_isAsSeen_1 3 rfl rfl)
theorem dX0_isAsSeen_27 : decode cX0_isAsSeen 27 = .ok (.getfield 87, 3) := dk_180 0 87 (dk_at dksX0_isAsSeen_1 4 rfl rfl)
theorem dX0_isAsSeen_30 : decode cX0_isAsSeen 30 = .ok (.getfield 266, 3) := dk_180 1 10 (dk_at dksX0_isAsSeen_1 7 rfl rfl)
theorem dX0_isAsSeen_33 : decode cX0_isAsSeen 33 = .ok (.aload_n 0, 1) := dk_42 (dk_at dksX0_isAsSeen_1 10 rfl rfl)
theorem dX0_isAsSeen_34 : decode cX0_isAsSeen 34 = .ok (.getfield 94, 3) := dk_180 0 94 (dk_at dksX0_isAsSeen_1 11 rfl rfl)
theorem dX0_isAsSeen_37 : decode cX0_isAsSeen 37 = .ok (.iload_n 2, 1) := dk_28 (dk_at dksX0_isAsSeen_1 14 rfl rfl)
theorem dX0_isAsSeen_38 : decode cX0_isAsSeen 38 = .ok (.iaload, 1) := dk_46 (dk_at dksX0_isAsSeen_1 15 rfl rfl)
theorem dX0_isAsSeen_39 : decode cX0_isAsSeen 39 = .ok (.iaload, 1) := dk_46 (dk_at dksX0_isAsSeen_1 16 rfl rfl)
theorem dX0_isAsSeen_40 : decode cX0_isAsSeen 40 = .ok (.aload_n 0, 1) := dk_42 (dk_at dksX0_isAsSeen_1 17 rfl rfl)
theorem dX0_isAsSeen_41 : decode cX0_isAsSeen 41 = .ok (.getfield 97, 3) := dk_180 0 97 (dk_at dksX0_isAsSeen_1 18 rfl rfl)
theorem dX0_isAsSeen_44 : decode cX0_isAsSeen 44 = .ok (.iload_n 2, 1) := dk_28 (dk_at dksX0_isAsSeen_1 21 rfl rfl)
theorem dX0_isAsSeen_45 : decode cX0_isAsSeen 45 = .ok (.iaload, 1) := dk_46 (dk_at dksX0_isAsSeen_1 22 rfl rfl)
theorem dX0_isAsSeen_46 : decode cX0_isAsSeen 46 = .ok (.if_icmp .eq 5, 3) := dk_159 0 5 (dk_at dksX0_isAsSeen_2 0 rfl rfl)
theorem dX0_isAsSeen_49 : decode cX0_isAsSeen 49 = .ok (.iconst 0, 1) := dk_3 (dk_at dksX0_isAsSeen_2 3 rfl rfl)
theorem dX0_isAsSeen_50 : decode cX0_isAsSeen 50 = .ok (.ireturn, 1) := dk_172 (dk_at dksX0_isAsSeen_2 4 rfl rfl)
theorem dX0_isAsSeen_51 : decode cX0_isAsSeen 51 = .ok (.iinc 2 1, 3) := dk_132 2 1 (dk_at dksX0_isAsSeen_2 5 rfl rfl)
theorem dX0_isAsSeen_54 : decode cX0_isAsSeen 54 = .ok (.goto (-36), 3) := dk_167 255 220 (dk_at dksX0_isAsSeen_2 8 rfl rfl)
theorem dX0_isAsSeen_57 : decode cX0_isAsSeen 57 = .ok (.iconst 1, 1) := dk_4 (dk_at dksX0_isAsSeen_2 11 rfl rfl)
theorem dX0_isAsSeen_58 : decode cX0_isAsSeen 58 = .ok (.ireturn, 1) := dk_172 (dk_at dksX0_isAsSeen_2 12 rfl rfl)
abbrev cX0_reached : ByteArray := prog_1_method_52_code
def yX0_reached : MethodName := ⟨RX0, "reached", "(I)I"⟩
def dkwX0_reached_2 : List UInt8 := [172, 42, 180, 0, 87, 42, 180, 0, 83, 182, 1, 35, 87, 42, 27, 182, 1, 107, 172]
abbrev dktX0_reached_2 : List UInt8 := dkwX0_reached_2 ++ []
def dkwX0_reached_1 : List UInt8 := [182, 0, 174, 104, 160, 0, 15, 42, 3, 42, 180, 0, 100, 182, 1, 109, 154, 0, 9, 42, 4, 182, 0, 120]
abbrev dktX0_reached_1 : List UInt8 := dkwX0_reached_1 ++ dktX0_reached_2
def dkwX0_reached_0 : List UInt8 := [42, 182, 0, 131, 61, 42, 182, 0, 211, 153, 0, 34, 27, 3, 6, 184, 0, 178, 153, 0, 25, 28, 5, 42]
abbrev dktX0_reached_0 : List UInt8 := dkwX0_reached_0 ++ dktX0_reached_1
theorem dksX0_reached_0 : cX0_reached.data.toList.drop 0 = dktX0_reached_0 := by decide +kernel
theorem dksX0_reached_1 : cX0_reached.data.toList.drop 24 = dktX0_reached_1 := dk_seg dksX0_reached_0 24 rfl rfl
theorem dksX0_reached_2 : cX0_reached.data.toList.drop 48 = dktX0_reached_2 := dk_seg dksX0_reached_1 24 rfl rfl
theorem dX0_reached_0 : decode cX0_reached 0 = .ok (.aload_n 0, 1) := dk_42 (dk_at dksX0_reached_0 0 rfl rfl)
theorem dX0_reached_1 : decode cX0_reached 1 = .ok (.invokevirtual 131, 3) := dk_182 0 131 (dk_at dksX0_reached_0 1 rfl rfl)
theorem dX0_reached_4 : decode cX0_reached 4 = .ok (.istore_n 2, 1) := dk_61 (dk_at dksX0_reached_0 4 rfl rfl)
theorem dX0_reached_5 : decode cX0_reached 5 = .ok (.aload_n 0, 1) := dk_42 (dk_at dksX0_reached_0 5 rfl rfl)
theorem dX0_reached_6 : decode cX0_reached 6 = .ok (.invokevirtual 211, 3) := dk_182 0 211 (dk_at dksX0_reached_0 6 rfl rfl)
theorem dX0_reached_9 : decode cX0_reached 9 = .ok (.ifCond .eq 34, 3) := dk_153 0 34 (dk_at dksX0_reached_0 9 rfl rfl)
theorem dX0_reached_12 : decode cX0_reached 12 = .ok (.iload_n 1, 1) := dk_27 (dk_at dksX0_reached_0 12 rfl rfl)
theorem dX0_reached_13 : decode cX0_reached 13 = .ok (.iconst 0, 1) := dk_3 (dk_at dksX0_reached_0 13 rfl rfl)
theorem dX0_reached_14 : decode cX0_reached 14 = .ok (.iconst 3, 1) := dk_6 (dk_at dksX0_reached_0 14 rfl rfl)
theorem dX0_reached_15 : decode cX0_reached 15 = .ok (.invokestatic 178, 3) := dk_184 0 178 (dk_at dksX0_reached_0 15 rfl rfl)
theorem dX0_reached_18 : decode cX0_reached 18 = .ok (.ifCond .eq 25, 3) := dk_153 0 25 (dk_at dksX0_reached_0 18 rfl rfl)
theorem dX0_reached_21 : decode cX0_reached 21 = .ok (.iload_n 2, 1) := dk_28 (dk_at dksX0_reached_0 21 rfl rfl)
theorem dX0_reached_22 : decode cX0_reached 22 = .ok (.iconst 2, 1) := dk_5 (dk_at dksX0_reached_0 22 rfl rfl)
theorem dX0_reached_23 : decode cX0_reached 23 = .ok (.aload_n 0, 1) := dk_42 (dk_at dksX0_reached_0 23 rfl rfl)
theorem dX0_reached_24 : decode cX0_reached 24 = .ok (.invokevirtual 174, 3) := dk_182 0 174 (dk_at dksX0_reached_1 0 rfl rfl)
theorem dX0_reached_27 : decode cX0_reached 27 = .ok (.imul, 1) := dk_104 (dk_at dksX0_reached_1 3 rfl rfl)
theorem dX0_reached_28 : decode cX0_reached 28 = .ok (.if_icmp .ne 15, 3) := dk_160 0 15 (dk_at dksX0_reached_1 4 rfl rfl)
theorem dX0_reached_31 : decode cX0_reached 31 = .ok (.aload_n 0, 1) := dk_42 (dk_at dksX0_reached_1 7 rfl rfl)
theorem dX0_reached_32 : decode cX0_reached 32 = .ok (.iconst 0, 1) := dk_3 (dk_at dksX0_reached_1 8 rfl rfl)
theorem dX0_reached_33 : decode cX0_reached 33 = .ok (.aload_n 0, 1) := dk_42 (dk_at dksX0_reached_1 9 rfl rfl)
theorem dX0_reached_34 : decode cX0_reached 34 = .ok (.getfield 100, 3) := dk_180 0 100 (dk_at dksX0_reached_1 10 rfl rfl)
theorem dX0_reached_37 : decode cX0_reached 37 = .ok (.invokevirtual 365, 3) := dk_182 1 109 (dk_at dksX0_reached_1 13 rfl rfl)
theorem dX0_reached_40 : decode cX0_reached 40 = .ok (.ifCond .ne 9, 3) := dk_154 0 9 (dk_at dksX0_reached_1 16 rfl rfl)
theorem dX0_reached_43 : decode cX0_reached 43 = .ok (.aload_n 0, 1) := dk_42 (dk_at dksX0_reached_1 19 rfl rfl)
theorem dX0_reached_44 : decode cX0_reached 44 = .ok (.iconst 1, 1) := dk_4 (dk_at dksX0_reached_1 20 rfl rfl)
theorem dX0_reached_45 : decode cX0_reached 45 = .ok (.invokevirtual 120, 3) := dk_182 0 120 (dk_at dksX0_reached_1 21 rfl rfl)
theorem dX0_reached_48 : decode cX0_reached 48 = .ok (.ireturn, 1) := dk_172 (dk_at dksX0_reached_2 0 rfl rfl)
theorem dX0_reached_49 : decode cX0_reached 49 = .ok (.aload_n 0, 1) := dk_42 (dk_at dksX0_reached_2 1 rfl rfl)
theorem dX0_reached_50 : decode cX0_reached 50 = .ok (.getfield 87, 3) := dk_180 0 87 (dk_at dksX0_reached_2 2 rfl rfl)
theorem dX0_reached_53 : decode cX0_reached 53 = .ok (.aload_n 0, 1) := dk_42 (dk_at dksX0_reached_2 5 rfl rfl)
theorem dX0_reached_54 : decode cX0_reached 54 = .ok (.getfield 83, 3) := dk_180 0 83 (dk_at dksX0_reached_2 6 rfl rfl)
theorem dX0_reached_57 : decode cX0_reached 57 = .ok (.invokevirtual 291, 3) := dk_182 1 35 (dk_at dksX0_reached_2 9 rfl rfl)
theorem dX0_reached_60 : decode cX0_reached 60 = .ok (.pop, 1) := dk_87 (dk_at dksX0_reached_2 12 rfl rfl)
theorem dX0_reached_61 : decode cX0_reached 61 = .ok (.aload_n 0, 1) := dk_42 (dk_at dksX0_reached_2 13 rfl rfl)
theorem dX0_reached_62 : decode cX0_reached 62 = .ok (.iload_n 1, 1) := dk_27 (dk_at dksX0_reached_2 14 rfl rfl)
theorem dX0_reached_63 : decode cX0_reached 63 = .ok (.invokevirtual 363, 3) := dk_182 1 107 (dk_at dksX0_reached_2 15 rfl rfl)
theorem dX0_reached_66 : decode cX0_reached 66 = .ok (.ireturn, 1) := dk_172 (dk_at dksX0_reached_2 18 rfl rfl)
abbrev cX0_readsMen : ByteArray := prog_1_method_50_code
def yX0_readsMen : MethodName := ⟨RX0, "readsMen", "(I[I)Z"⟩
def dkwX0_readsMen_5 : List UInt8 := [167, 255, 147, 4, 172]
abbrev dktX0_readsMen_5 : List UInt8 := dkwX0_readsMen_5 ++ []
def dkwX0_readsMen_4 : List UInt8 := [21, 4, 8, 21, 6, 104, 21, 5, 96, 79, 29, 4, 44, 21, 4, 46, 120, 128, 62, 132, 4, 1]
abbrev dktX0_readsMen_4 : List UInt8 := dkwX0_readsMen_4 ++ dktX0_readsMen_5
def dkwX0_readsMen_3 : List UInt8 := [182, 1, 13, 153, 0, 17, 29, 8, 21, 6, 104, 21, 5, 96, 184, 1, 104, 153, 0, 5, 3, 172, 44]
abbrev dktX0_readsMen_3 : List UInt8 := dkwX0_readsMen_3 ++ dktX0_readsMen_4
def dkwX0_readsMen_2 : List UInt8 := [17, 0, 255, 160, 0, 14, 21, 6, 17, 0, 255, 160, 0, 6, 167, 0, 50, 42, 21, 5, 21, 6]
abbrev dktX0_readsMen_2 : List UInt8 := dkwX0_readsMen_2 ++ dktX0_readsMen_3
def dkwX0_readsMen_1 : List UInt8 := [54, 5, 42, 27, 5, 21, 4, 104, 96, 4, 96, 182, 1, 95, 54, 6, 44, 21, 4, 2, 79, 21, 5]
abbrev dktX0_readsMen_1 : List UInt8 := dkwX0_readsMen_1 ++ dktX0_readsMen_2
def dkwX0_readsMen_0 : List UInt8 := [3, 62, 3, 54, 4, 21, 4, 42, 182, 0, 174, 162, 0, 106, 42, 27, 5, 21, 4, 104, 96, 182, 1, 95]
abbrev dktX0_readsMen_0 : List UInt8 := dkwX0_readsMen_0 ++ dktX0_readsMen_1
theorem dksX0_readsMen_0 : cX0_readsMen.data.toList.drop 0 = dktX0_readsMen_0 := by decide +kernel
theorem dksX0_readsMen_1 : cX0_readsMen.data.toList.drop 24 = dktX0_readsMen_1 := dk_seg dksX0_readsMen_0 24 rfl rfl
theorem dksX0_readsMen_2 : cX0_readsMen.data.toList.drop 47 = dktX0_readsMen_2 := dk_seg dksX0_readsMen_1 23 rfl rfl
theorem dksX0_readsMen_3 : cX0_readsMen.data.toList.drop 69 = dktX0_readsMen_3 := dk_seg dksX0_readsMen_2 22 rfl rfl
theorem dksX0_readsMen_4 : cX0_readsMen.data.toList.drop 92 = dktX0_readsMen_4 := dk_seg dksX0_readsMen_3 23 rfl rfl
theorem dksX0_readsMen_5 : cX0_readsMen.data.toList.drop 114 = dktX0_readsMen_5 := dk_seg dksX0_readsMen_4 22 rfl rfl
theorem dX0_readsMen_0 : decode cX0_readsMen 0 = .ok (.iconst 0, 1) := dk_3 (dk_at dksX0_readsMen_0 0 rfl rfl)
theorem dX0_readsMen_1 : decode cX0_readsMen 1 = .ok (.istore_n 3, 1) := dk_62 (dk_at dksX0_readsMen_0 1 rfl rfl)
theorem dX0_readsMen_2 : decode cX0_readsMen 2 = .ok (.iconst 0, 1) := dk_3 (dk_at dksX0_readsMen_0 2 rfl rfl)
theorem dX0_readsMen_3 : decode cX0_readsMen 3 = .ok (.istore 4, 2) := dk_54 4 (dk_at dksX0_readsMen_0 3 rfl rfl)
theorem dX0_readsMen_5 : decode cX0_readsMen 5 = .ok (.iload 4, 2) := dk_21 4 (dk_at dksX0_readsMen_0 5 rfl rfl)
theorem dX0_readsMen_7 : decode cX0_readsMen 7 = .ok (.aload_n 0, 1) := dk_42 (dk_at dksX0_readsMen_0 7 rfl rfl)
theorem dX0_readsMen_8 : decode cX0_readsMen 8 = .ok (.invokevirtual 174, 3) := dk_182 0 174 (dk_at dksX0_readsMen_0 8 rfl rfl)
theorem dX0_readsMen_11 : decode cX0_readsMen 11 = .ok (.if_icmp .ge 106, 3) := dk_162 0 106 (dk_at dksX0_readsMen_0 11 rfl rfl)
theorem dX0_readsMen_14 : decode cX0_readsMen 14 = .ok (.aload_n 0, 1) := dk_42 (dk_at dksX0_readsMen_0 14 rfl rfl)
theorem dX0_readsMen_15 : decode cX0_readsMen 15 = .ok (.iload_n 1, 1) := dk_27 (dk_at dksX0_readsMen_0 15 rfl rfl)
theorem dX0_readsMen_16 : decode cX0_readsMen 16 = .ok (.iconst 2, 1) := dk_5 (dk_at dksX0_readsMen_0 16 rfl rfl)
theorem dX0_readsMen_17 : decode cX0_readsMen 17 = .ok (.iload 4, 2) := dk_21 4 (dk_at dksX0_readsMen_0 17 rfl rfl)
theorem dX0_readsMen_19 : decode cX0_readsMen 19 = .ok (.imul, 1) := dk_104 (dk_at dksX0_readsMen_0 19 rfl rfl)
theorem dX0_readsMen_20 : decode cX0_readsMen 20 = .ok (.iadd, 1) := dk_96 (dk_at dksX0_readsMen_0 20 rfl rfl)
theorem dX0_readsMen_21 : decode cX0_readsMen 21 = .ok (.invokevirtual 351, 3) := dk_182 1 95 (dk_at dksX0_readsMen_0 21 rfl rfl)
theorem dX0_readsMen_24 : decode cX0_readsMen 24 = .ok (.istore 5, 2) := dk_54 5 (dk_at dksX0_readsMen_1 0 rfl rfl)
theorem dX0_readsMen_26 : decode cX0_readsMen 26 = .ok (.aload_n 0, 1) := dk_42 (dk_at dksX0_readsMen_1 2 rfl rfl)
theorem dX0_readsMen_27 : decode cX0_readsMen 27 = .ok (.iload_n 1, 1) := dk_27 (dk_at dksX0_readsMen_1 3 rfl rfl)
theorem dX0_readsMen_28 : decode cX0_readsMen 28 = .ok (.iconst 2, 1) := dk_5 (dk_at dksX0_readsMen_1 4 rfl rfl)
theorem dX0_readsMen_29 : decode cX0_readsMen 29 = .ok (.iload 4, 2) := dk_21 4 (dk_at dksX0_readsMen_1 5 rfl rfl)
theorem dX0_readsMen_31 : decode cX0_readsMen 31 = .ok (.imul, 1) := dk_104 (dk_at dksX0_readsMen_1 7 rfl rfl)
theorem dX0_readsMen_32 : decode cX0_readsMen 32 = .ok (.iadd, 1) := dk_96 (dk_at dksX0_readsMen_1 8 rfl rfl)
theorem dX0_readsMen_33 : decode cX0_readsMen 33 = .ok (.iconst 1, 1) := dk_4 (dk_at dksX0_readsMen_1 9 rfl rfl)
theorem dX0_readsMen_34 : decode cX0_readsMen 34 = .ok (.iadd, 1) := dk_96 (dk_at dksX0_readsMen_1 10 rfl rfl)
theorem dX0_readsMen_35 : decode cX0_readsMen 35 = .ok (.invokevirtual 351, 3) := dk_182 1 95 (dk_at dksX0_readsMen_1 11 rfl rfl)
theorem dX0_readsMen_38 : decode cX0_readsMen 38 = .ok (.istore 6, 2) := dk_54 6 (dk_at dksX0_readsMen_1 14 rfl rfl)
theorem dX0_readsMen_40 : decode cX0_readsMen 40 = .ok (.aload_n 2, 1) := dk_44 (dk_at dksX0_readsMen_1 16 rfl rfl)
theorem dX0_readsMen_41 : decode cX0_readsMen 41 = .ok (.iload 4, 2) := dk_21 4 (dk_at dksX0_readsMen_1 17 rfl rfl)
theorem dX0_readsMen_43 : decode cX0_readsMen 43 = .ok (.iconst (-1), 1) := dk_2 (dk_at dksX0_readsMen_1 19 rfl rfl)
theorem dX0_readsMen_44 : decode cX0_readsMen 44 = .ok (.iastore, 1) := dk_79 (dk_at dksX0_readsMen_1 20 rfl rfl)
theorem dX0_readsMen_45 : decode cX0_readsMen 45 = .ok (.iload 5, 2) := dk_21 5 (dk_at dksX0_readsMen_1 21 rfl rfl)
theorem dX0_readsMen_47 : decode cX0_readsMen 47 = .ok (.sipush 255, 3) := dk_17 0 255 (dk_at dksX0_readsMen_2 0 rfl rfl)
theorem dX0_readsMen_50 : decode cX0_readsMen 50 = .ok (.if_icmp .ne 14, 3) := dk_160 0 14 (dk_at dksX0_readsMen_2 3 rfl rfl)
theorem dX0_readsMen_53 : decode cX0_readsMen 53 = .ok (.iload 6, 2) := dk_21 6 (dk_at dksX0_readsMen_2 6 rfl rfl)
theorem dX0_readsMen_55 : decode cX0_readsMen 55 = .ok (.sipush 255, 3) := dk_17 0 255 (dk_at dksX0_readsMen_2 8 rfl rfl)
theorem dX0_readsMen_58 : decode cX0_readsMen 58 = .ok (.if_icmp .ne 6, 3) := dk_160 0 6 (dk_at dksX0_readsMen_2 11 rfl rfl)
theorem dX0_readsMen_61 : decode cX0_readsMen 61 = .ok (.goto 50, 3) := dk_167 0 50 (dk_at dksX0_readsMen_2 14 rfl rfl)
theorem dX0_readsMen_64 : decode cX0_readsMen 64 = .ok (.aload_n 0, 1) := dk_42 (dk_at dksX0_readsMen_2 17 rfl rfl)
theorem dX0_readsMen_65 : decode cX0_readsMen 65 = .ok (.iload 5, 2) := dk_21 5 (dk_at dksX0_readsMen_2 18 rfl rfl)
theorem dX0_readsMen_67 : decode cX0_readsMen 67 = .ok (.iload 6, 2) := dk_21 6 (dk_at dksX0_readsMen_2 20 rfl rfl)
theorem dX0_readsMen_69 : decode cX0_readsMen 69 = .ok (.invokevirtual 269, 3) := dk_182 1 13 (dk_at dksX0_readsMen_3 0 rfl rfl)
theorem dX0_readsMen_72 : decode cX0_readsMen 72 = .ok (.ifCond .eq 17, 3) := dk_153 0 17 (dk_at dksX0_readsMen_3 3 rfl rfl)
theorem dX0_readsMen_75 : decode cX0_readsMen 75 = .ok (.iload_n 3, 1) := dk_29 (dk_at dksX0_readsMen_3 6 rfl rfl)
theorem dX0_readsMen_76 : decode cX0_readsMen 76 = .ok (.iconst 5, 1) := dk_8 (dk_at dksX0_readsMen_3 7 rfl rfl)
theorem dX0_readsMen_77 : decode cX0_readsMen 77 = .ok (.iload 6, 2) := dk_21 6 (dk_at dksX0_readsMen_3 8 rfl rfl)
theorem dX0_readsMen_79 : decode cX0_readsMen 79 = .ok (.imul, 1) := dk_104 (dk_at dksX0_readsMen_3 10 rfl rfl)
theorem dX0_readsMen_80 : decode cX0_readsMen 80 = .ok (.iload 5, 2) := dk_21 5 (dk_at dksX0_readsMen_3 11 rfl rfl)
theorem dX0_readsMen_82 : decode cX0_readsMen 82 = .ok (.iadd, 1) := dk_96 (dk_at dksX0_readsMen_3 13 rfl rfl)
theorem dX0_readsMen_83 : decode cX0_readsMen 83 = .ok (.invokestatic 360, 3) := dk_184 1 104 (dk_at dksX0_readsMen_3 14 rfl rfl)
theorem dX0_readsMen_86 : decode cX0_readsMen 86 = .ok (.ifCond .eq 5, 3) := dk_153 0 5 (dk_at dksX0_readsMen_3 17 rfl rfl)
theorem dX0_readsMen_89 : decode cX0_readsMen 89 = .ok (.iconst 0, 1) := dk_3 (dk_at dksX0_readsMen_3 20 rfl rfl)
theorem dX0_readsMen_90 : decode cX0_readsMen 90 = .ok (.ireturn, 1) := dk_172 (dk_at dksX0_readsMen_3 21 rfl rfl)
theorem dX0_readsMen_91 : decode cX0_readsMen 91 = .ok (.aload_n 2, 1) := dk_44 (dk_at dksX0_readsMen_3 22 rfl rfl)
theorem dX0_readsMen_92 : decode cX0_readsMen 92 = .ok (.iload 4, 2) := dk_21 4 (dk_at dksX0_readsMen_4 0 rfl rfl)
theorem dX0_readsMen_94 : decode cX0_readsMen 94 = .ok (.iconst 5, 1) := dk_8 (dk_at dksX0_readsMen_4 2 rfl rfl)
theorem dX0_readsMen_95 : decode cX0_readsMen 95 = .ok (.iload 6, 2) := dk_21 6 (dk_at dksX0_readsMen_4 3 rfl rfl)
theorem dX0_readsMen_97 : decode cX0_readsMen 97 = .ok (.imul, 1) := dk_104 (dk_at dksX0_readsMen_4 5 rfl rfl)
theorem dX0_readsMen_98 : decode cX0_readsMen 98 = .ok (.iload 5, 2) := dk_21 5 (dk_at dksX0_readsMen_4 6 rfl rfl)
theorem dX0_readsMen_100 : decode cX0_readsMen 100 = .ok (.iadd, 1) := dk_96 (dk_at dksX0_readsMen_4 8 rfl rfl)
theorem dX0_readsMen_101 : decode cX0_readsMen 101 = .ok (.iastore, 1) := dk_79 (dk_at dksX0_readsMen_4 9 rfl rfl)
theorem dX0_readsMen_102 : decode cX0_readsMen 102 = .ok (.iload_n 3, 1) := dk_29 (dk_at dksX0_readsMen_4 10 rfl rfl)
theorem dX0_readsMen_103 : decode cX0_readsMen 103 = .ok (.iconst 1, 1) := dk_4 (dk_at dksX0_readsMen_4 11 rfl rfl)
theorem dX0_readsMen_104 : decode cX0_readsMen 104 = .ok (.aload_n 2, 1) := dk_44 (dk_at dksX0_readsMen_4 12 rfl rfl)
theorem dX0_readsMen_105 : decode cX0_readsMen 105 = .ok (.iload 4, 2) := dk_21 4 (dk_at dksX0_readsMen_4 13 rfl rfl)
theorem dX0_readsMen_107 : decode cX0_readsMen 107 = .ok (.iaload, 1) := dk_46 (dk_at dksX0_readsMen_4 15 rfl rfl)
theorem dX0_readsMen_108 : decode cX0_readsMen 108 = .ok (.ishl, 1) := dk_120 (dk_at dksX0_readsMen_4 16 rfl rfl)
theorem dX0_readsMen_109 : decode cX0_readsMen 109 = .ok (.ior, 1) := dk_128 (dk_at dksX0_readsMen_4 17 rfl rfl)
theorem dX0_readsMen_110 : decode cX0_readsMen 110 = .ok (.istore_n 3, 1) := dk_62 (dk_at dksX0_readsMen_4 18 rfl rfl)
theorem dX0_readsMen_111 : decode cX0_readsMen 111 = .ok (.iinc 4 1, 3) := dk_132 4 1 (dk_at dksX0_readsMen_4 19 rfl rfl)
theorem dX0_readsMen_114 : decode cX0_readsMen 114 = .ok (.goto (-109), 3) := dk_167 255 147 (dk_at dksX0_readsMen_5 0 rfl rfl)
theorem dX0_readsMen_117 : decode cX0_readsMen 117 = .ok (.iconst 1, 1) := dk_4 (dk_at dksX0_readsMen_5 3 rfl rfl)
theorem dX0_readsMen_118 : decode cX0_readsMen 118 = .ok (.ireturn, 1) := dk_172 (dk_at dksX0_readsMen_5 4 rfl rfl)
abbrev cX0_ways : ByteArray := prog_1_method_51_code
def yX0_ways : MethodName := ⟨RX0, "ways", "(I)I"⟩
def dkwX0_ways_6 : List UInt8 := [42, 180, 0, 87, 21, 5, 21, 6, 21, 7, 182, 1, 67, 132, 4, 1, 167, 255, 182, 29, 172]
abbrev dktX0_ways_6 : List UInt8 := dkwX0_ways_6 ++ []
def dkwX0_ways_5 : List UInt8 := [21, 5, 44, 180, 1, 31, 21, 4, 46, 182, 1, 39, 54, 7, 29, 42, 27, 4, 100, 182, 1, 107, 96, 62]
abbrev dktX0_ways_5 : List UInt8 := dkwX0_ways_5 ++ dktX0_ways_6
def dkwX0_ways_4 : List UInt8 := [180, 1, 32, 21, 4, 46, 54, 5, 42, 180, 0, 87, 180, 0, 249, 21, 5, 46, 54, 6, 42, 180, 0, 87]
abbrev dktX0_ways_4 : List UInt8 := dkwX0_ways_4 ++ dktX0_ways_5
def dkwX0_ways_3 : List UInt8 := [180, 0, 208, 44, 182, 1, 25, 3, 62, 3, 54, 4, 21, 4, 44, 180, 1, 20, 162, 0, 71, 44]
abbrev dktX0_ways_3 : List UInt8 := dkwX0_ways_3 ++ dktX0_ways_4
def dkwX0_ways_2 : List UInt8 := [180, 1, 22, 158, 0, 5, 3, 172, 42, 180, 0, 68, 27, 50, 77, 42, 180, 0, 87, 42, 180, 0, 87]
abbrev dktX0_ways_2 : List UInt8 := dkwX0_ways_2 ++ dktX0_ways_3
def dkwX0_ways_1 : List UInt8 := [180, 0, 100, 28, 46, 159, 0, 5, 3, 172, 132, 2, 1, 167, 255, 225, 4, 172, 42, 180, 0, 87]
abbrev dktX0_ways_1 : List UInt8 := dkwX0_ways_1 ++ dktX0_ways_2
def dkwX0_ways_0 : List UInt8 := [27, 154, 0, 41, 3, 61, 28, 42, 182, 0, 174, 162, 0, 29, 42, 180, 0, 87, 180, 0, 249, 28, 46, 42]
abbrev dktX0_ways_0 : List UInt8 := dkwX0_ways_0 ++ dktX0_ways_1
theorem dksX0_ways_0 : cX0_ways.data.toList.drop 0 = dktX0_ways_0 := by decide +kernel
theorem dksX0_ways_1 : cX0_ways.data.toList.drop 24 = dktX0_ways_1 := dk_seg dksX0_ways_0 24 rfl rfl
theorem dksX0_ways_2 : cX0_ways.data.toList.drop 46 = dktX0_ways_2 := dk_seg dksX0_ways_1 22 rfl rfl
theorem dksX0_ways_3 : cX0_ways.data.toList.drop 69 = dktX0_ways_3 := dk_seg dksX0_ways_2 23 rfl rfl
theorem dksX0_ways_4 : cX0_ways.data.toList.drop 91 = dktX0_ways_4 := dk_seg dksX0_ways_3 22 rfl rfl
theorem dksX0_ways_5 : cX0_ways.data.toList.drop 115 = dktX0_ways_5 := dk_seg dksX0_ways_4 24 rfl rfl
theorem dksX0_ways_6 : cX0_ways.data.toList.drop 139 = dktX0_ways_6 := dk_seg dksX0_ways_5 24 rfl rfl
theorem dX0_ways_0 : decode cX0_ways 0 = .ok (.iload_n 1, 1) := dk_27 (dk_at dksX0_ways_0 0 rfl rfl)
theorem dX0_ways_1 : decode cX0_ways 1 = .ok (.ifCond .ne 41, 3) := dk_154 0 41 (dk_at dksX0_ways_0 1 rfl rfl)
theorem dX0_ways_4 : decode cX0_ways 4 = .ok (.iconst 0, 1) := dk_3 (dk_at dksX0_ways_0 4 rfl rfl)
theorem dX0_ways_5 : decode cX0_ways 5 = .ok (.istore_n 2, 1) := dk_61 (dk_at dksX0_ways_0 5 rfl rfl)
theorem dX0_ways_6 : decode cX0_ways 6 = .ok (.iload_n 2, 1) := dk_28 (dk_at dksX0_ways_0 6 rfl rfl)
theorem dX0_ways_7 : decode cX0_ways 7 = .ok (.aload_n 0, 1) := dk_42 (dk_at dksX0_ways_0 7 rfl rfl)
theorem dX0_ways_8 : decode cX0_ways 8 = .ok (.invokevirtual 174, 3) := dk_182 0 174 (dk_at dksX0_ways_0 8 rfl rfl)
theorem dX0_ways_11 : decode cX0_ways 11 = .ok (.if_icmp .ge 29, 3) := dk_162 0 29 (dk_at dksX0_ways_0 11 rfl rfl)
theorem dX0_ways_14 : decode cX0_ways 14 = .ok (.aload_n 0, 1) := dk_42 (dk_at dksX0_ways_0 14 rfl rfl)
theorem dX0_ways_15 : decode cX0_ways 15 = .ok (.getfield 87, 3) := dk_180 0 87 (dk_at dksX0_ways_0 15 rfl rfl)
theorem dX0_ways_18 : decode cX0_ways 18 = .ok (.getfield 249, 3) := dk_180 0 249 (dk_at dksX0_ways_0 18 rfl rfl)
theorem dX0_ways_21 : decode cX0_ways 21 = .ok (.iload_n 2, 1) := dk_28 (dk_at dksX0_ways_0 21 rfl rfl)
theorem dX0_ways_22 : decode cX0_ways 22 = .ok (.iaload, 1) := dk_46 (dk_at dksX0_ways_0 22 rfl rfl)
theorem dX0_ways_23 : decode cX0_ways 23 = .ok (.aload_n 0, 1) := dk_42 (dk_at dksX0_ways_0 23 rfl rfl)
theorem dX0_ways_24 : decode cX0_ways 24 = .ok (.getfield 100, 3) := dk_180 0 100 (dk_at dksX0_ways_1 0 rfl rfl)
theorem dX0_ways_27 : decode cX0_ways 27 = .ok (.iload_n 2, 1) := dk_28 (dk_at dksX0_ways_1 3 rfl rfl)
theorem dX0_ways_28 : decode cX0_ways 28 = .ok (.iaload, 1) := dk_46 (dk_at dksX0_ways_1 4 rfl rfl)
theorem dX0_ways_29 : decode cX0_ways 29 = .ok (.if_icmp .eq 5, 3) := dk_159 0 5 (dk_at dksX0_ways_1 5 rfl rfl)
theorem dX0_ways_32 : decode cX0_ways 32 = .ok (.iconst 0, 1) := dk_3 (dk_at dksX0_ways_1 8 rfl rfl)
theorem dX0_ways_33 : decode cX0_ways 33 = .ok (.ireturn, 1) := dk_172 (dk_at dksX0_ways_1 9 rfl rfl)
theorem dX0_ways_34 : decode cX0_ways 34 = .ok (.iinc 2 1, 3) := dk_132 2 1 (dk_at dksX0_ways_1 10 rfl rfl)
theorem dX0_ways_37 : decode cX0_ways 37 = .ok (.goto (-31), 3) := dk_167 255 225 (dk_at dksX0_ways_1 13 rfl rfl)
theorem dX0_ways_40 : decode cX0_ways 40 = .ok (.iconst 1, 1) := dk_4 (dk_at dksX0_ways_1 16 rfl rfl)
theorem dX0_ways_41 : decode cX0_ways 41 = .ok (.ireturn, 1) := dk_172 (dk_at dksX0_ways_1 17 rfl rfl)
theorem dX0_ways_42 : decode cX0_ways 42 = .ok (.aload_n 0, 1) := dk_42 (dk_at dksX0_ways_1 18 rfl rfl)
theorem dX0_ways_43 : decode cX0_ways 43 = .ok (.getfield 87, 3) := dk_180 0 87 (dk_at dksX0_ways_1 19 rfl rfl)
theorem dX0_ways_46 : decode cX0_ways 46 = .ok (.getfield 278, 3) := dk_180 1 22 (dk_at dksX0_ways_2 0 rfl rfl)
theorem dX0_ways_49 : decode cX0_ways 49 = .ok (.ifCond .le 5, 3) := dk_158 0 5 (dk_at dksX0_ways_2 3 rfl rfl)
theorem dX0_ways_52 : decode cX0_ways 52 = .ok (.iconst 0, 1) := dk_3 (dk_at dksX0_ways_2 6 rfl rfl)
theorem dX0_ways_53 : decode cX0_ways 53 = .ok (.ireturn, 1) := dk_172 (dk_at dksX0_ways_2 7 rfl rfl)
theorem dX0_ways_54 : decode cX0_ways 54 = .ok (.aload_n 0, 1) := dk_42 (dk_at dksX0_ways_2 8 rfl rfl)
theorem dX0_ways_55 : decode cX0_ways 55 = .ok (.getfield 68, 3) := dk_180 0 68 (dk_at dksX0_ways_2 9 rfl rfl)
theorem dX0_ways_58 : decode cX0_ways 58 = .ok (.iload_n 1, 1) := dk_27 (dk_at dksX0_ways_2 12 rfl rfl)
theorem dX0_ways_59 : decode cX0_ways 59 = .ok (.aaload, 1) := dk_50 (dk_at dksX0_ways_2 13 rfl rfl)
theorem dX0_ways_60 : decode cX0_ways 60 = .ok (.astore_n 2, 1) := dk_77 (dk_at dksX0_ways_2 14 rfl rfl)
theorem dX0_ways_61 : decode cX0_ways 61 = .ok (.aload_n 0, 1) := dk_42 (dk_at dksX0_ways_2 15 rfl rfl)
theorem dX0_ways_62 : decode cX0_ways 62 = .ok (.getfield 87, 3) := dk_180 0 87 (dk_at dksX0_ways_2 16 rfl rfl)
theorem dX0_ways_65 : decode cX0_ways 65 = .ok (.aload_n 0, 1) := dk_42 (dk_at dksX0_ways_2 19 rfl rfl)
theorem dX0_ways_66 : decode cX0_ways 66 = .ok (.getfield 87, 3) := dk_180 0 87 (dk_at dksX0_ways_2 20 rfl rfl)
theorem dX0_ways_69 : decode cX0_ways 69 = .ok (.getfield 208, 3) := dk_180 0 208 (dk_at dksX0_ways_3 0 rfl rfl)
theorem dX0_ways_72 : decode cX0_ways 72 = .ok (.aload_n 2, 1) := dk_44 (dk_at dksX0_ways_3 3 rfl rfl)
theorem dX0_ways_73 : decode cX0_ways 73 = .ok (.invokevirtual 281, 3) := dk_182 1 25 (dk_at dksX0_ways_3 4 rfl rfl)
theorem dX0_ways_76 : decode cX0_ways 76 = .ok (.iconst 0, 1) := dk_3 (dk_at dksX0_ways_3 7 rfl rfl)
theorem dX0_ways_77 : decode cX0_ways 77 = .ok (.istore_n 3, 1) := dk_62 (dk_at dksX0_ways_3 8 rfl rfl)
theorem dX0_ways_78 : decode cX0_ways 78 = .ok (.iconst 0, 1) := dk_3 (dk_at dksX0_ways_3 9 rfl rfl)
theorem dX0_ways_79 : decode cX0_ways 79 = .ok (.istore 4, 2) := dk_54 4 (dk_at dksX0_ways_3 10 rfl rfl)
theorem dX0_ways_81 : decode cX0_ways 81 = .ok (.iload 4, 2) := dk_21 4 (dk_at dksX0_ways_3 12 rfl rfl)
theorem dX0_ways_83 : decode cX0_ways 83 = .ok (.aload_n 2, 1) := dk_44 (dk_at dksX0_ways_3 14 rfl rfl)
theorem dX0_ways_84 : decode cX0_ways 84 = .ok (.getfield 276, 3) := dk_180 1 20 (dk_at dksX0_ways_3 15 rfl rfl)
theorem dX0_ways_87 : decode cX0_ways 87 = .ok (.if_icmp .ge 71, 3) := dk_162 0 71 (dk_at dksX0_ways_3 18 rfl rfl)
theorem dX0_ways_90 : decode cX0_ways 90 = .ok (.aload_n 2, 1) := dk_44 (dk_at dksX0_ways_3 21 rfl rfl)
theorem dX0_ways_91 : decode cX0_ways 91 = .ok (.getfield 288, 3) := dk_180 1 32 (dk_at dksX0_ways_4 0 rfl rfl)
theorem dX0_ways_94 : decode cX0_ways 94 = .ok (.iload 4, 2) := dk_21 4 (dk_at dksX0_ways_4 3 rfl rfl)
theorem dX0_ways_96 : decode cX0_ways 96 = .ok (.iaload, 1) := dk_46 (dk_at dksX0_ways_4 5 rfl rfl)
theorem dX0_ways_97 : decode cX0_ways 97 = .ok (.istore 5, 2) := dk_54 5 (dk_at dksX0_ways_4 6 rfl rfl)
theorem dX0_ways_99 : decode cX0_ways 99 = .ok (.aload_n 0, 1) := dk_42 (dk_at dksX0_ways_4 8 rfl rfl)
theorem dX0_ways_100 : decode cX0_ways 100 = .ok (.getfield 87, 3) := dk_180 0 87 (dk_at dksX0_ways_4 9 rfl rfl)
theorem dX0_ways_103 : decode cX0_ways 103 = .ok (.getfield 249, 3) := dk_180 0 249 (dk_at dksX0_ways_4 12 rfl rfl)
theorem dX0_ways_106 : decode cX0_ways 106 = .ok (.iload 5, 2) := dk_21 5 (dk_at dksX0_ways_4 15 rfl rfl)
theorem dX0_ways_108 : decode cX0_ways 108 = .ok (.iaload, 1) := dk_46 (dk_at dksX0_ways_4 17 rfl rfl)
theorem dX0_ways_109 : decode cX0_ways 109 = .ok (.istore 6, 2) := dk_54 6 (dk_at dksX0_ways_4 18 rfl rfl)
theorem dX0_ways_111 : decode cX0_ways 111 = .ok (.aload_n 0, 1) := dk_42 (dk_at dksX0_ways_4 20 rfl rfl)
theorem dX0_ways_112 : decode cX0_ways 112 = .ok (.getfield 87, 3) := dk_180 0 87 (dk_at dksX0_ways_4 21 rfl rfl)
theorem dX0_ways_115 : decode cX0_ways 115 = .ok (.iload 5, 2) := dk_21 5 (dk_at dksX0_ways_5 0 rfl rfl)
theorem dX0_ways_117 : decode cX0_ways 117 = .ok (.aload_n 2, 1) := dk_44 (dk_at dksX0_ways_5 2 rfl rfl)
theorem dX0_ways_118 : decode cX0_ways 118 = .ok (.getfield 287, 3) := dk_180 1 31 (dk_at dksX0_ways_5 3 rfl rfl)
theorem dX0_ways_121 : decode cX0_ways 121 = .ok (.iload 4, 2) := dk_21 4 (dk_at dksX0_ways_5 6 rfl rfl)
theorem dX0_ways_123 : decode cX0_ways 123 = .ok (.iaload, 1) := dk_46 (dk_at dksX0_ways_5 8 rfl rfl)
theorem dX0_ways_124 : decode cX0_ways 124 = .ok (.invokevirtual 295, 3) := dk_182 1 39 (dk_at dksX0_ways_5 9 rfl rfl)
theorem dX0_ways_127 : decode cX0_ways 127 = .ok (.istore 7, 2) := dk_54 7 (dk_at dksX0_ways_5 12 rfl rfl)
theorem dX0_ways_129 : decode cX0_ways 129 = .ok (.iload_n 3, 1) := dk_29 (dk_at dksX0_ways_5 14 rfl rfl)
theorem dX0_ways_130 : decode cX0_ways 130 = .ok (.aload_n 0, 1) := dk_42 (dk_at dksX0_ways_5 15 rfl rfl)
theorem dX0_ways_131 : decode cX0_ways 131 = .ok (.iload_n 1, 1) := dk_27 (dk_at dksX0_ways_5 16 rfl rfl)
theorem dX0_ways_132 : decode cX0_ways 132 = .ok (.iconst 1, 1) := dk_4 (dk_at dksX0_ways_5 17 rfl rfl)
theorem dX0_ways_133 : decode cX0_ways 133 = .ok (.isub, 1) := dk_100 (dk_at dksX0_ways_5 18 rfl rfl)
theorem dX0_ways_134 : decode cX0_ways 134 = .ok (.invokevirtual 363, 3) := dk_182 1 107 (dk_at dksX0_ways_5 19 rfl rfl)
theorem dX0_ways_137 : decode cX0_ways 137 = .ok (.iadd, 1) := dk_96 (dk_at dksX0_ways_5 22 rfl rfl)
theorem dX0_ways_138 : decode cX0_ways 138 = .ok (.istore_n 3, 1) := dk_62 (dk_at dksX0_ways_5 23 rfl rfl)
theorem dX0_ways_139 : decode cX0_ways 139 = .ok (.aload_n 0, 1) := dk_42 (dk_at dksX0_ways_6 0 rfl rfl)
theorem dX0_ways_140 : decode cX0_ways 140 = .ok (.getfield 87, 3) := dk_180 0 87 (dk_at dksX0_ways_6 1 rfl rfl)
theorem dX0_ways_143 : decode cX0_ways 143 = .ok (.iload 5, 2) := dk_21 5 (dk_at dksX0_ways_6 4 rfl rfl)
theorem dX0_ways_145 : decode cX0_ways 145 = .ok (.iload 6, 2) := dk_21 6 (dk_at dksX0_ways_6 6 rfl rfl)
theorem dX0_ways_147 : decode cX0_ways 147 = .ok (.iload 7, 2) := dk_21 7 (dk_at dksX0_ways_6 8 rfl rfl)
theorem dX0_ways_149 : decode cX0_ways 149 = .ok (.invokevirtual 323, 3) := dk_182 1 67 (dk_at dksX0_ways_6 10 rfl rfl)
theorem dX0_ways_152 : decode cX0_ways 152 = .ok (.iinc 4 1, 3) := dk_132 4 1 (dk_at dksX0_ways_6 13 rfl rfl)
theorem dX0_ways_155 : decode cX0_ways 155 = .ok (.goto (-74), 3) := dk_167 255 182 (dk_at dksX0_ways_6 16 rfl rfl)
theorem dX0_ways_158 : decode cX0_ways 158 = .ok (.iload_n 3, 1) := dk_29 (dk_at dksX0_ways_6 19 rfl rfl)
theorem dX0_ways_159 : decode cX0_ways 159 = .ok (.ireturn, 1) := dk_172 (dk_at dksX0_ways_6 20 rfl rfl)
abbrev cX0_undo : ByteArray := prog_1_method_54_code
def yX0_undo : MethodName := ⟨RX0, "undo", "()Z"⟩
def dkwX0_undo_2 : List UInt8 := [87, 4, 172]
abbrev dktX0_undo_2 : List UInt8 := dkwX0_undo_2 ++ []
def dkwX0_undo_1 : List UInt8 := [180, 0, 150, 4, 100, 181, 0, 150, 42, 180, 0, 83, 42, 180, 0, 103, 42, 180, 0, 150, 50, 182, 1, 35]
abbrev dktX0_undo_1 : List UInt8 := dkwX0_undo_1 ++ dktX0_undo_2
def dkwX0_undo_0 : List UInt8 := [42, 180, 0, 150, 154, 0, 17, 42, 7, 182, 0, 120, 155, 0, 7, 4, 167, 0, 4, 3, 172, 42, 89]
abbrev dktX0_undo_0 : List UInt8 := dkwX0_undo_0 ++ dktX0_undo_1
theorem dksX0_undo_0 : cX0_undo.data.toList.drop 0 = dktX0_undo_0 := by decide +kernel
theorem dksX0_undo_1 : cX0_undo.data.toList.drop 23 = dktX0_undo_1 := dk_seg dksX0_undo_0 23 rfl rfl
theorem dksX0_undo_2 : cX0_undo.data.toList.drop 47 = dktX0_undo_2 := dk_seg dksX0_undo_1 24 rfl rfl
theorem dX0_undo_0 : decode cX0_undo 0 = .ok (.aload_n 0, 1) := dk_42 (dk_at dksX0_undo_0 0 rfl rfl)
theorem dX0_undo_1 : decode cX0_undo 1 = .ok (.getfield 150, 3) := dk_180 0 150 (dk_at dksX0_undo_0 1 rfl rfl)
theorem dX0_undo_4 : decode cX0_undo 4 = .ok (.ifCond .ne 17, 3) := dk_154 0 17 (dk_at dksX0_undo_0 4 rfl rfl)
theorem dX0_undo_7 : decode cX0_undo 7 = .ok (.aload_n 0, 1) := dk_42 (dk_at dksX0_undo_0 7 rfl rfl)
theorem dX0_undo_8 : decode cX0_undo 8 = .ok (.iconst 4, 1) := dk_7 (dk_at dksX0_undo_0 8 rfl rfl)
theorem dX0_undo_9 : decode cX0_undo 9 = .ok (.invokevirtual 120, 3) := dk_182 0 120 (dk_at dksX0_undo_0 9 rfl rfl)
theorem dX0_undo_12 : decode cX0_undo 12 = .ok (.ifCond .lt 7, 3) := dk_155 0 7 (dk_at dksX0_undo_0 12 rfl rfl)
theorem dX0_undo_15 : decode cX0_undo 15 = .ok (.iconst 1, 1) := dk_4 (dk_at dksX0_undo_0 15 rfl rfl)
theorem dX0_undo_16 : decode cX0_undo 16 = .ok (.goto 4, 3) := dk_167 0 4 (dk_at dksX0_undo_0 16 rfl rfl)
theorem dX0_undo_19 : decode cX0_undo 19 = .ok (.iconst 0, 1) := dk_3 (dk_at dksX0_undo_0 19 rfl rfl)
theorem dX0_undo_20 : decode cX0_undo 20 = .ok (.ireturn, 1) := dk_172 (dk_at dksX0_undo_0 20 rfl rfl)
theorem dX0_undo_21 : decode cX0_undo 21 = .ok (.aload_n 0, 1) := dk_42 (dk_at dksX0_undo_0 21 rfl rfl)
theorem dX0_undo_22 : decode cX0_undo 22 = .ok (.dup, 1) := dk_89 (dk_at dksX0_undo_0 22 rfl rfl)
theorem dX0_undo_23 : decode cX0_undo 23 = .ok (.getfield 150, 3) := dk_180 0 150 (dk_at dksX0_undo_1 0 rfl rfl)
theorem dX0_undo_26 : decode cX0_undo 26 = .ok (.iconst 1, 1) := dk_4 (dk_at dksX0_undo_1 3 rfl rfl)
theorem dX0_undo_27 : decode cX0_undo 27 = .ok (.isub, 1) := dk_100 (dk_at dksX0_undo_1 4 rfl rfl)
theorem dX0_undo_28 : decode cX0_undo 28 = .ok (.putfield 150, 3) := dk_181 0 150 (dk_at dksX0_undo_1 5 rfl rfl)
theorem dX0_undo_31 : decode cX0_undo 31 = .ok (.aload_n 0, 1) := dk_42 (dk_at dksX0_undo_1 8 rfl rfl)
theorem dX0_undo_32 : decode cX0_undo 32 = .ok (.getfield 83, 3) := dk_180 0 83 (dk_at dksX0_undo_1 9 rfl rfl)
theorem dX0_undo_35 : decode cX0_undo 35 = .ok (.aload_n 0, 1) := dk_42 (dk_at dksX0_undo_1 12 rfl rfl)
theorem dX0_undo_36 : decode cX0_undo 36 = .ok (.getfield 103, 3) := dk_180 0 103 (dk_at dksX0_undo_1 13 rfl rfl)
theorem dX0_undo_39 : decode cX0_undo 39 = .ok (.aload_n 0, 1) := dk_42 (dk_at dksX0_undo_1 16 rfl rfl)
theorem dX0_undo_40 : decode cX0_undo 40 = .ok (.getfield 150, 3) := dk_180 0 150 (dk_at dksX0_undo_1 17 rfl rfl)
theorem dX0_undo_43 : decode cX0_undo 43 = .ok (.aaload, 1) := dk_50 (dk_at dksX0_undo_1 20 rfl rfl)
theorem dX0_undo_44 : decode cX0_undo 44 = .ok (.invokevirtual 291, 3) := dk_182 1 35 (dk_at dksX0_undo_1 21 rfl rfl)
theorem dX0_undo_47 : decode cX0_undo 47 = .ok (.pop, 1) := dk_87 (dk_at dksX0_undo_2 0 rfl rfl)
theorem dX0_undo_48 : decode cX0_undo 48 = .ok (.iconst 1, 1) := dk_4 (dk_at dksX0_undo_2 1 rfl rfl)
theorem dX0_undo_49 : decode cX0_undo 49 = .ok (.ireturn, 1) := dk_172 (dk_at dksX0_undo_2 2 rfl rfl)
abbrev cX0_play : ByteArray := prog_1_method_55_code
def yX0_play : MethodName := ⟨RX0, "play", "(I)I"⟩
def dkwX0_play_2 : List UInt8 := [17, 0, 255, 167, 0, 4, 28, 172]
abbrev dktX0_play_2 : List UInt8 := dkwX0_play_2 ++ []
def dkwX0_play_1 : List UInt8 := [42, 5, 182, 0, 120, 172, 42, 182, 1, 113, 42, 180, 0, 83, 27, 182, 1, 81, 61, 28, 2, 160, 0, 9]
abbrev dktX0_play_1 : List UInt8 := dkwX0_play_1 ++ dktX0_play_2
def dkwX0_play_0 : List UInt8 := [27, 3, 42, 182, 1, 29, 4, 100, 184, 0, 178, 153, 0, 13, 42, 4, 4, 4, 182, 1, 74, 154, 0, 9]
abbrev dktX0_play_0 : List UInt8 := dkwX0_play_0 ++ dktX0_play_1
theorem dksX0_play_0 : cX0_play.data.toList.drop 0 = dktX0_play_0 := by decide +kernel
theorem dksX0_play_1 : cX0_play.data.toList.drop 24 = dktX0_play_1 := dk_seg dksX0_play_0 24 rfl rfl
theorem dksX0_play_2 : cX0_play.data.toList.drop 48 = dktX0_play_2 := dk_seg dksX0_play_1 24 rfl rfl
theorem dX0_play_0 : decode cX0_play 0 = .ok (.iload_n 1, 1) := dk_27 (dk_at dksX0_play_0 0 rfl rfl)
theorem dX0_play_1 : decode cX0_play 1 = .ok (.iconst 0, 1) := dk_3 (dk_at dksX0_play_0 1 rfl rfl)
theorem dX0_play_2 : decode cX0_play 2 = .ok (.aload_n 0, 1) := dk_42 (dk_at dksX0_play_0 2 rfl rfl)
theorem dX0_play_3 : decode cX0_play 3 = .ok (.invokevirtual 285, 3) := dk_182 1 29 (dk_at dksX0_play_0 3 rfl rfl)
theorem dX0_play_6 : decode cX0_play 6 = .ok (.iconst 1, 1) := dk_4 (dk_at dksX0_play_0 6 rfl rfl)
theorem dX0_play_7 : decode cX0_play 7 = .ok (.isub, 1) := dk_100 (dk_at dksX0_play_0 7 rfl rfl)
theorem dX0_play_8 : decode cX0_play 8 = .ok (.invokestatic 178, 3) := dk_184 0 178 (dk_at dksX0_play_0 8 rfl rfl)
theorem dX0_play_11 : decode cX0_play 11 = .ok (.ifCond .eq 13, 3) := dk_153 0 13 (dk_at dksX0_play_0 11 rfl rfl)
theorem dX0_play_14 : decode cX0_play 14 = .ok (.aload_n 0, 1) := dk_42 (dk_at dksX0_play_0 14 rfl rfl)
theorem dX0_play_15 : decode cX0_play 15 = .ok (.iconst 1, 1) := dk_4 (dk_at dksX0_play_0 15 rfl rfl)
theorem dX0_play_16 : decode cX0_play 16 = .ok (.iconst 1, 1) := dk_4 (dk_at dksX0_play_0 16 rfl rfl)
theorem dX0_play_17 : decode cX0_play 17 = .ok (.iconst 1, 1) := dk_4 (dk_at dksX0_play_0 17 rfl rfl)
theorem dX0_play_18 : decode cX0_play 18 = .ok (.invokevirtual 330, 3) := dk_182 1 74 (dk_at dksX0_play_0 18 rfl rfl)
theorem dX0_play_21 : decode cX0_play 21 = .ok (.ifCond .ne 9, 3) := dk_154 0 9 (dk_at dksX0_play_0 21 rfl rfl)
theorem dX0_play_24 : decode cX0_play 24 = .ok (.aload_n 0, 1) := dk_42 (dk_at dksX0_play_1 0 rfl rfl)
theorem dX0_play_25 : decode cX0_play 25 = .ok (.iconst 2, 1) := dk_5 (dk_at dksX0_play_1 1 rfl rfl)
theorem dX0_play_26 : decode cX0_play 26 = .ok (.invokevirtual 120, 3) := dk_182 0 120 (dk_at dksX0_play_1 2 rfl rfl)
theorem dX0_play_29 : decode cX0_play 29 = .ok (.ireturn, 1) := dk_172 (dk_at dksX0_play_1 5 rfl rfl)
theorem dX0_play_30 : decode cX0_play 30 = .ok (.aload_n 0, 1) := dk_42 (dk_at dksX0_play_1 6 rfl rfl)
theorem dX0_play_31 : decode cX0_play 31 = .ok (.invokevirtual 369, 3) := dk_182 1 113 (dk_at dksX0_play_1 7 rfl rfl)
theorem dX0_play_34 : decode cX0_play 34 = .ok (.aload_n 0, 1) := dk_42 (dk_at dksX0_play_1 10 rfl rfl)
theorem dX0_play_35 : decode cX0_play 35 = .ok (.getfield 83, 3) := dk_180 0 83 (dk_at dksX0_play_1 11 rfl rfl)
theorem dX0_play_38 : decode cX0_play 38 = .ok (.iload_n 1, 1) := dk_27 (dk_at dksX0_play_1 14 rfl rfl)
theorem dX0_play_39 : decode cX0_play 39 = .ok (.invokevirtual 337, 3) := dk_182 1 81 (dk_at dksX0_play_1 15 rfl rfl)
theorem dX0_play_42 : decode cX0_play 42 = .ok (.istore_n 2, 1) := dk_61 (dk_at dksX0_play_1 18 rfl rfl)
theorem dX0_play_43 : decode cX0_play 43 = .ok (.iload_n 2, 1) := dk_28 (dk_at dksX0_play_1 19 rfl rfl)
theorem dX0_play_44 : decode cX0_play 44 = .ok (.iconst (-1), 1) := dk_2 (dk_at dksX0_play_1 20 rfl rfl)
theorem dX0_play_45 : decode cX0_play 45 = .ok (.if_icmp .ne 9, 3) := dk_160 0 9 (dk_at dksX0_play_1 21 rfl rfl)
theorem dX0_play_48 : decode cX0_play 48 = .ok (.sipush 255, 3) := dk_17 0 255 (dk_at dksX0_play_2 0 rfl rfl)
theorem dX0_play_51 : decode cX0_play 51 = .ok (.goto 4, 3) := dk_167 0 4 (dk_at dksX0_play_2 3 rfl rfl)
theorem dX0_play_54 : decode cX0_play 54 = .ok (.iload_n 2, 1) := dk_28 (dk_at dksX0_play_2 6 rfl rfl)
theorem dX0_play_55 : decode cX0_play 55 = .ok (.ireturn, 1) := dk_172 (dk_at dksX0_play_2 7 rfl rfl)
abbrev cX0_keeps : ByteArray := prog_1_method_53_code
def yX0_keeps : MethodName := ⟨RX0, "keeps", "()V"⟩
def dkwX0_keeps_3 : List UInt8 := [180, 0, 83, 182, 1, 35, 87, 42, 89, 180, 0, 150, 4, 96, 181, 0, 150, 177]
abbrev dktX0_keeps_3 : List UInt8 := dkwX0_keeps_3 ++ []
def dkwX0_keeps_2 : List UInt8 := [16, 19, 43, 83, 42, 89, 180, 0, 150, 4, 100, 181, 0, 150, 42, 180, 0, 103, 42, 180, 0, 150, 50, 42]
abbrev dktX0_keeps_2 : List UInt8 := dkwX0_keeps_2 ++ dktX0_keeps_3
def dkwX0_keeps_1 : List UInt8 := [42, 180, 0, 103, 28, 4, 100, 42, 180, 0, 103, 28, 50, 83, 132, 2, 1, 167, 255, 233, 42, 180, 0, 103]
abbrev dktX0_keeps_1 : List UInt8 := dkwX0_keeps_1 ++ dktX0_keeps_2
def dkwX0_keeps_0 : List UInt8 := [42, 180, 0, 150, 16, 20, 160, 0, 56, 42, 180, 0, 103, 3, 50, 76, 4, 61, 28, 16, 20, 162, 0, 23]
abbrev dktX0_keeps_0 : List UInt8 := dkwX0_keeps_0 ++ dktX0_keeps_1
theorem dksX0_keeps_0 : cX0_keeps.data.toList.drop 0 = dktX0_keeps_0 := by decide +kernel
theorem dksX0_keeps_1 : cX0_keeps.data.toList.drop 24 = dktX0_keeps_1 := dk_seg dksX0_keeps_0 24 rfl rfl
theorem dksX0_keeps_2 : cX0_keeps.data.toList.drop 48 = dktX0_keeps_2 := dk_seg dksX0_keeps_1 24 rfl rfl
theorem dksX0_keeps_3 : cX0_keeps.data.toList.drop 72 = dktX0_keeps_3 := dk_seg dksX0_keeps_2 24 rfl rfl
theorem dX0_keeps_0 : decode cX0_keeps 0 = .ok (.aload_n 0, 1) := dk_42 (dk_at dksX0_keeps_0 0 rfl rfl)
theorem dX0_keeps_1 : decode cX0_keeps 1 = .ok (.getfield 150, 3) := dk_180 0 150 (dk_at dksX0_keeps_0 1 rfl rfl)
theorem dX0_keeps_4 : decode cX0_keeps 4 = .ok (.bipush 20, 2) := dk_16 20 (dk_at dksX0_keeps_0 4 rfl rfl)
theorem dX0_keeps_6 : decode cX0_keeps 6 = .ok (.if_icmp .ne 56, 3) := dk_160 0 56 (dk_at dksX0_keeps_0 6 rfl rfl)
theorem dX0_keeps_9 : decode cX0_keeps 9 = .ok (.aload_n 0, 1) := dk_42 (dk_at dksX0_keeps_0 9 rfl rfl)
theorem dX0_keeps_10 : decode cX0_keeps 10 = .ok (.getfield 103, 3) := dk_180 0 103 (dk_at dksX0_keeps_0 10 rfl rfl)
theorem dX0_keeps_13 : decode cX0_keeps 13 = .ok (.iconst 0, 1) := dk_3 (dk_at dksX0_keeps_0 13 rfl rfl)
theorem dX0_keeps_14 : decode cX0_keeps 14 = .ok (.aaload, 1) := dk_50 (dk_at dksX0_keeps_0 14 rfl rfl)
theorem dX0_keeps_15 : decode cX0_keeps 15 = .ok (.astore_n 1, 1) := dk_76 (dk_at dksX0_keeps_0 15 rfl rfl)
theorem dX0_keeps_16 : decode cX0_keeps 16 = .ok (.iconst 1, 1) := dk_4 (dk_at dksX0_keeps_0 16 rfl rfl)
theorem dX0_keeps_17 : decode cX0_keeps 17 = .ok (.istore_n 2, 1) := dk_61 (dk_at dksX0_keeps_0 17 rfl rfl)
theorem dX0_keeps_18 : decode cX0_keeps 18 = .ok (.iload_n 2, 1) := dk_28 (dk_at dksX0_keeps_0 18 rfl rfl)
theorem dX0_keeps_19 : decode cX0_keeps 19 = .ok (.bipush 20, 2) := dk_16 20 (dk_at dksX0_keeps_0 19 rfl rfl)
theorem dX0_keeps_21 : decode cX0_keeps 21 = .ok (.if_icmp .ge 23, 3) := dk_162 0 23 (dk_at dksX0_keeps_0 21 rfl rfl)
theorem dX0_keeps_24 : decode cX0_keeps 24 = .ok (.aload_n 0, 1) := dk_42 (dk_at dksX0_keeps_1 0 rfl rfl)
theorem dX0_keeps_25 : decode cX0_keeps 25 = .ok (.getfield 103, 3) := dk_180 0 103 (dk_at dksX0_keeps_1 1 rfl rfl)
theorem dX0_keeps_28 : decode cX0_keeps 28 = .ok (.iload_n 2, 1) := dk_28 (dk_at dksX0_keeps_1 4 rfl rfl)
theorem dX0_keeps_29 : decode cX0_keeps 29 = .ok (.iconst 1, 1) := dk_4 (dk_at dksX0_keeps_1 5 rfl rfl)
theorem dX0_keeps_30 : decode cX0_keeps 30 = .ok (.isub, 1) := dk_100 (dk_at dksX0_keeps_1 6 rfl rfl)
theorem dX0_keeps_31 : decode cX0_keeps 31 = .ok (.aload_n 0, 1) := dk_42 (dk_at dksX0_keeps_1 7 rfl rfl)
theorem dX0_keeps_32 : decode cX0_keeps 32 = .ok (.getfield 103, 3) := dk_180 0 103 (dk_at dksX0_keeps_1 8 rfl rfl)
theorem dX0_keeps_35 : decode cX0_keeps 35 = .ok (.iload_n 2, 1) := dk_28 (dk_at dksX0_keeps_1 11 rfl rfl)
theorem dX0_keeps_36 : decode cX0_keeps 36 = .ok (.aaload, 1) := dk_50 (dk_at dksX0_keeps_1 12 rfl rfl)
theorem dX0_keeps_37 : decode cX0_keeps 37 = .ok (.aastore, 1) := dk_83 (dk_at dksX0_keeps_1 13 rfl rfl)
theorem dX0_keeps_38 : decode cX0_keeps 38 = .ok (.iinc 2 1, 3) := dk_132 2 1 (dk_at dksX0_keeps_1 14 rfl rfl)
theorem dX0_keeps_41 : decode cX0_keeps 41 = .ok (.goto (-23), 3) := dk_167 255 233 (dk_at dksX0_keeps_1 17 rfl rfl)
theorem dX0_keeps_44 : decode cX0_keeps 44 = .ok (.aload_n 0, 1) := dk_42 (dk_at dksX0_keeps_1 20 rfl rfl)
theorem dX0_keeps_45 : decode cX0_keeps 45 = .ok (.getfield 103, 3) := dk_180 0 103 (dk_at dksX0_keeps_1 21 rfl rfl)
theorem dX0_keeps_48 : decode cX0_keeps 48 = .ok (.bipush 19, 2) := dk_16 19 (dk_at dksX0_keeps_2 0 rfl rfl)
theorem dX0_keeps_50 : decode cX0_keeps 50 = .ok (.aload_n 1, 1) := dk_43 (dk_at dksX0_keeps_2 2 rfl rfl)
theorem dX0_keeps_51 : decode cX0_keeps 51 = .ok (.aastore, 1) := dk_83 (dk_at dksX0_keeps_2 3 rfl rfl)
theorem dX0_keeps_52 : decode cX0_keeps 52 = .ok (.aload_n 0, 1) := dk_42 (dk_at dksX0_keeps_2 4 rfl rfl)
theorem dX0_keeps_53 : decode cX0_keeps 53 = .ok (.dup, 1) := dk_89 (dk_at dksX0_keeps_2 5 rfl rfl)
theorem dX0_keeps_54 : decode cX0_keeps 54 = .ok (.getfield 150, 3) := dk_180 0 150 (dk_at dksX0_keeps_2 6 rfl rfl)
theorem dX0_keeps_57 : decode cX0_keeps 57 = .ok (.iconst 1, 1) := dk_4 (dk_at dksX0_keeps_2 9 rfl rfl)
theorem dX0_keeps_58 : decode cX0_keeps 58 = .ok (.isub, 1) := dk_100 (dk_at dksX0_keeps_2 10 rfl rfl)
theorem dX0_keeps_59 : decode cX0_keeps 59 = .ok (.putfield 150, 3) := dk_181 0 150 (dk_at dksX0_keeps_2 11 rfl rfl)
theorem dX0_keeps_62 : decode cX0_keeps 62 = .ok (.aload_n 0, 1) := dk_42 (dk_at dksX0_keeps_2 14 rfl rfl)
theorem dX0_keeps_63 : decode cX0_keeps 63 = .ok (.getfield 103, 3) := dk_180 0 103 (dk_at dksX0_keeps_2 15 rfl rfl)
theorem dX0_keeps_66 : decode cX0_keeps 66 = .ok (.aload_n 0, 1) := dk_42 (dk_at dksX0_keeps_2 18 rfl rfl)
theorem dX0_keeps_67 : decode cX0_keeps 67 = .ok (.getfield 150, 3) := dk_180 0 150 (dk_at dksX0_keeps_2 19 rfl rfl)
theorem dX0_keeps_70 : decode cX0_keeps 70 = .ok (.aaload, 1) := dk_50 (dk_at dksX0_keeps_2 22 rfl rfl)
theorem dX0_keeps_71 : decode cX0_keeps 71 = .ok (.aload_n 0, 1) := dk_42 (dk_at dksX0_keeps_2 23 rfl rfl)
theorem dX0_keeps_72 : decode cX0_keeps 72 = .ok (.getfield 83, 3) := dk_180 0 83 (dk_at dksX0_keeps_3 0 rfl rfl)
theorem dX0_keeps_75 : decode cX0_keeps 75 = .ok (.invokevirtual 291, 3) := dk_182 1 35 (dk_at dksX0_keeps_3 3 rfl rfl)
theorem dX0_keeps_78 : decode cX0_keeps 78 = .ok (.pop, 1) := dk_87 (dk_at dksX0_keeps_3 6 rfl rfl)
theorem dX0_keeps_79 : decode cX0_keeps 79 = .ok (.aload_n 0, 1) := dk_42 (dk_at dksX0_keeps_3 7 rfl rfl)
theorem dX0_keeps_80 : decode cX0_keeps 80 = .ok (.dup, 1) := dk_89 (dk_at dksX0_keeps_3 8 rfl rfl)
theorem dX0_keeps_81 : decode cX0_keeps 81 = .ok (.getfield 150, 3) := dk_180 0 150 (dk_at dksX0_keeps_3 9 rfl rfl)
theorem dX0_keeps_84 : decode cX0_keeps 84 = .ok (.iconst 1, 1) := dk_4 (dk_at dksX0_keeps_3 12 rfl rfl)
theorem dX0_keeps_85 : decode cX0_keeps 85 = .ok (.iadd, 1) := dk_96 (dk_at dksX0_keeps_3 13 rfl rfl)
theorem dX0_keeps_86 : decode cX0_keeps 86 = .ok (.putfield 150, 3) := dk_181 0 150 (dk_at dksX0_keeps_3 14 rfl rfl)
theorem dX0_keeps_89 : decode cX0_keeps 89 = .ok (.return_, 1) := dk_177 (dk_at dksX0_keeps_3 17 rfl rfl)
abbrev cX0_tend : ByteArray := prog_1_method_56_code
def yX0_tend : MethodName := ⟨RX0, "tend", "(II)I"⟩
def dkwX0_tend_2 : List UInt8 := [28, 96, 184, 1, 115, 79, 42, 180, 0, 83, 180, 1, 10, 27, 46, 172]
abbrev dktX0_tend_2 : List UInt8 := dkwX0_tend_2 ++ []
def dkwX0_tend_1 : List UInt8 := [42, 182, 1, 113, 42, 180, 0, 83, 180, 1, 10, 27, 17, 3, 231, 42, 180, 0, 83, 180, 1, 10, 27, 46]
abbrev dktX0_tend_1 : List UInt8 := dkwX0_tend_1 ++ dktX0_tend_2
def dkwX0_tend_0 : List UInt8 := [42, 27, 182, 0, 255, 153, 0, 13, 28, 4, 16, 99, 184, 0, 178, 154, 0, 9, 42, 5, 182, 0, 120, 172]
abbrev dktX0_tend_0 : List UInt8 := dkwX0_tend_0 ++ dktX0_tend_1
theorem dksX0_tend_0 : cX0_tend.data.toList.drop 0 = dktX0_tend_0 := by decide +kernel
theorem dksX0_tend_1 : cX0_tend.data.toList.drop 24 = dktX0_tend_1 := dk_seg dksX0_tend_0 24 rfl rfl
theorem dksX0_tend_2 : cX0_tend.data.toList.drop 48 = dktX0_tend_2 := dk_seg dksX0_tend_1 24 rfl rfl
theorem dX0_tend_0 : decode cX0_tend 0 = .ok (.aload_n 0, 1) := dk_42 (dk_at dksX0_tend_0 0 rfl rfl)
theorem dX0_tend_1 : decode cX0_tend 1 = .ok (.iload_n 1, 1) := dk_27 (dk_at dksX0_tend_0 1 rfl rfl)
theorem dX0_tend_2 : decode cX0_tend 2 = .ok (.invokevirtual 255, 3) := dk_182 0 255 (dk_at dksX0_tend_0 2 rfl rfl)
theorem dX0_tend_5 : decode cX0_tend 5 = .ok (.ifCond .eq 13, 3) := dk_153 0 13 (dk_at dksX0_tend_0 5 rfl rfl)
theorem dX0_tend_8 : decode cX0_tend 8 = .ok (.iload_n 2, 1) := dk_28 (dk_at dksX0_tend_0 8 rfl rfl)
theorem dX0_tend_9 : decode cX0_tend 9 = .ok (.iconst 1, 1) := dk_4 (dk_at dksX0_tend_0 9 rfl rfl)
theorem dX0_tend_10 : decode cX0_tend 10 = .ok (.bipush 99, 2) := dk_16 99 (dk_at dksX0_tend_0 10 rfl rfl)
theorem dX0_tend_12 : decode cX0_tend 12 = .ok (.invokestatic 178, 3) := dk_184 0 178 (dk_at dksX0_tend_0 12 rfl rfl)
theorem dX0_tend_15 : decode cX0_tend 15 = .ok (.ifCond .ne 9, 3) := dk_154 0 9 (dk_at dksX0_tend_0 15 rfl rfl)
theorem dX0_tend_18 : decode cX0_tend 18 = .ok (.aload_n 0, 1) := dk_42 (dk_at dksX0_tend_0 18 rfl rfl)
theorem dX0_tend_19 : decode cX0_tend 19 = .ok (.iconst 2, 1) := dk_5 (dk_at dksX0_tend_0 19 rfl rfl)
theorem dX0_tend_20 : decode cX0_tend 20 = .ok (.invokevirtual 120, 3) := dk_182 0 120 (dk_at dksX0_tend_0 20 rfl rfl)
theorem dX0_tend_23 : decode cX0_tend 23 = .ok (.ireturn, 1) := dk_172 (dk_at dksX0_tend_0 23 rfl rfl)
theorem dX0_tend_24 : decode cX0_tend 24 = .ok (.aload_n 0, 1) := dk_42 (dk_at dksX0_tend_1 0 rfl rfl)
theorem dX0_tend_25 : decode cX0_tend 25 = .ok (.invokevirtual 369, 3) := dk_182 1 113 (dk_at dksX0_tend_1 1 rfl rfl)
theorem dX0_tend_28 : decode cX0_tend 28 = .ok (.aload_n 0, 1) := dk_42 (dk_at dksX0_tend_1 4 rfl rfl)
theorem dX0_tend_29 : decode cX0_tend 29 = .ok (.getfield 83, 3) := dk_180 0 83 (dk_at dksX0_tend_1 5 rfl rfl)
theorem dX0_tend_32 : decode cX0_tend 32 = .ok (.getfield 266, 3) := dk_180 1 10 (dk_at dksX0_tend_1 8 rfl rfl)
theorem dX0_tend_35 : decode cX0_tend 35 = .ok (.iload_n 1, 1) := dk_27 (dk_at dksX0_tend_1 11 rfl rfl)
theorem dX0_tend_36 : decode cX0_tend 36 = .ok (.sipush 999, 3) := dk_17 3 231 (dk_at dksX0_tend_1 12 rfl rfl)
theorem dX0_tend_39 : decode cX0_tend 39 = .ok (.aload_n 0, 1) := dk_42 (dk_at dksX0_tend_1 15 rfl rfl)
theorem dX0_tend_40 : decode cX0_tend 40 = .ok (.getfield 83, 3) := dk_180 0 83 (dk_at dksX0_tend_1 16 rfl rfl)
theorem dX0_tend_43 : decode cX0_tend 43 = .ok (.getfield 266, 3) := dk_180 1 10 (dk_at dksX0_tend_1 19 rfl rfl)
theorem dX0_tend_46 : decode cX0_tend 46 = .ok (.iload_n 1, 1) := dk_27 (dk_at dksX0_tend_1 22 rfl rfl)
theorem dX0_tend_47 : decode cX0_tend 47 = .ok (.iaload, 1) := dk_46 (dk_at dksX0_tend_1 23 rfl rfl)
theorem dX0_tend_48 : decode cX0_tend 48 = .ok (.iload_n 2, 1) := dk_28 (dk_at dksX0_tend_2 0 rfl rfl)
theorem dX0_tend_49 : decode cX0_tend 49 = .ok (.iadd, 1) := dk_96 (dk_at dksX0_tend_2 1 rfl rfl)
theorem dX0_tend_50 : decode cX0_tend 50 = .ok (.invokestatic 371, 3) := dk_184 1 115 (dk_at dksX0_tend_2 2 rfl rfl)
theorem dX0_tend_53 : decode cX0_tend 53 = .ok (.iastore, 1) := dk_79 (dk_at dksX0_tend_2 5 rfl rfl)
theorem dX0_tend_54 : decode cX0_tend 54 = .ok (.aload_n 0, 1) := dk_42 (dk_at dksX0_tend_2 6 rfl rfl)
theorem dX0_tend_55 : decode cX0_tend 55 = .ok (.getfield 83, 3) := dk_180 0 83 (dk_at dksX0_tend_2 7 rfl rfl)
theorem dX0_tend_58 : decode cX0_tend 58 = .ok (.getfield 266, 3) := dk_180 1 10 (dk_at dksX0_tend_2 10 rfl rfl)
theorem dX0_tend_61 : decode cX0_tend 61 = .ok (.iload_n 1, 1) := dk_27 (dk_at dksX0_tend_2 13 rfl rfl)
theorem dX0_tend_62 : decode cX0_tend 62 = .ok (.iaload, 1) := dk_46 (dk_at dksX0_tend_2 14 rfl rfl)
theorem dX0_tend_63 : decode cX0_tend 63 = .ok (.ireturn, 1) := dk_172 (dk_at dksX0_tend_2 15 rfl rfl)
abbrev cX0_days : ByteArray := prog_1_method_57_code
def yX0_days : MethodName := ⟨RX0, "days", "(I)I"⟩
def dkwX0_days_2 : List UInt8 := [182, 1, 92, 172]
abbrev dktX0_days_2 : List UInt8 := dkwX0_days_2 ++ []
def dkwX0_days_1 : List UInt8 := [180, 0, 83, 27, 42, 180, 0, 31, 180, 1, 89, 3, 46, 42, 180, 0, 31, 180, 1, 89, 4, 46]
abbrev dktX0_days_1 : List UInt8 := dkwX0_days_1 ++ dktX0_days_2
def dkwX0_days_0 : List UInt8 := [42, 27, 4, 16, 30, 182, 1, 74, 154, 0, 9, 42, 6, 182, 0, 120, 172, 42, 182, 1, 113, 42]
abbrev dktX0_days_0 : List UInt8 := dkwX0_days_0 ++ dktX0_days_1
theorem dksX0_days_0 : cX0_days.data.toList.drop 0 = dktX0_days_0 := by decide +kernel
theorem dksX0_days_1 : cX0_days.data.toList.drop 22 = dktX0_days_1 := dk_seg dksX0_days_0 22 rfl rfl
theorem dksX0_days_2 : cX0_days.data.toList.drop 44 = dktX0_days_2 := dk_seg dksX0_days_1 22 rfl rfl
theorem dX0_days_0 : decode cX0_days 0 = .ok (.aload_n 0, 1) := dk_42 (dk_at dksX0_days_0 0 rfl rfl)
theorem dX0_days_1 : decode cX0_days 1 = .ok (.iload_n 1, 1) := dk_27 (dk_at dksX0_days_0 1 rfl rfl)
theorem dX0_days_2 : decode cX0_days 2 = .ok (.iconst 1, 1) := dk_4 (dk_at dksX0_days_0 2 rfl rfl)
theorem dX0_days_3 : decode cX0_days 3 = .ok (.bipush 30, 2) := dk_16 30 (dk_at dksX0_days_0 3 rfl rfl)
theorem dX0_days_5 : decode cX0_days 5 = .ok (.invokevirtual 330, 3) := dk_182 1 74 (dk_at dksX0_days_0 5 rfl rfl)
theorem dX0_days_8 : decode cX0_days 8 = .ok (.ifCond .ne 9, 3) := dk_154 0 9 (dk_at dksX0_days_0 8 rfl rfl)
theorem dX0_days_11 : decode cX0_days 11 = .ok (.aload_n 0, 1) := dk_42 (dk_at dksX0_days_0 11 rfl rfl)
theorem dX0_days_12 : decode cX0_days 12 = .ok (.iconst 3, 1) := dk_6 (dk_at dksX0_days_0 12 rfl rfl)
theorem dX0_days_13 : decode cX0_days 13 = .ok (.invokevirtual 120, 3) := dk_182 0 120 (dk_at dksX0_days_0 13 rfl rfl)
theorem dX0_days_16 : decode cX0_days 16 = .ok (.ireturn, 1) := dk_172 (dk_at dksX0_days_0 16 rfl rfl)
theorem dX0_days_17 : decode cX0_days 17 = .ok (.aload_n 0, 1) := dk_42 (dk_at dksX0_days_0 17 rfl rfl)
theorem dX0_days_18 : decode cX0_days 18 = .ok (.invokevirtual 369, 3) := dk_182 1 113 (dk_at dksX0_days_0 18 rfl rfl)
theorem dX0_days_21 : decode cX0_days 21 = .ok (.aload_n 0, 1) := dk_42 (dk_at dksX0_days_0 21 rfl rfl)
theorem dX0_days_22 : decode cX0_days 22 = .ok (.getfield 83, 3) := dk_180 0 83 (dk_at dksX0_days_1 0 rfl rfl)
theorem dX0_days_25 : decode cX0_days 25 = .ok (.iload_n 1, 1) := dk_27 (dk_at dksX0_days_1 3 rfl rfl)
theorem dX0_days_26 : decode cX0_days 26 = .ok (.aload_n 0, 1) := dk_42 (dk_at dksX0_days_1 4 rfl rfl)
theorem dX0_days_27 : decode cX0_days 27 = .ok (.getfield 31, 3) := dk_180 0 31 (dk_at dksX0_days_1 5 rfl rfl)
theorem dX0_days_30 : decode cX0_days 30 = .ok (.getfield 345, 3) := dk_180 1 89 (dk_at dksX0_days_1 8 rfl rfl)
theorem dX0_days_33 : decode cX0_days 33 = .ok (.iconst 0, 1) := dk_3 (dk_at dksX0_days_1 11 rfl rfl)
theorem dX0_days_34 : decode cX0_days 34 = .ok (.iaload, 1) := dk_46 (dk_at dksX0_days_1 12 rfl rfl)
theorem dX0_days_35 : decode cX0_days 35 = .ok (.aload_n 0, 1) := dk_42 (dk_at dksX0_days_1 13 rfl rfl)
theorem dX0_days_36 : decode cX0_days 36 = .ok (.getfield 31, 3) := dk_180 0 31 (dk_at dksX0_days_1 14 rfl rfl)
theorem dX0_days_39 : decode cX0_days 39 = .ok (.getfield 345, 3) := dk_180 1 89 (dk_at dksX0_days_1 17 rfl rfl)
theorem dX0_days_42 : decode cX0_days 42 = .ok (.iconst 1, 1) := dk_4 (dk_at dksX0_days_1 20 rfl rfl)
theorem dX0_days_43 : decode cX0_days 43 = .ok (.iaload, 1) := dk_46 (dk_at dksX0_days_1 21 rfl rfl)
theorem dX0_days_44 : decode cX0_days 44 = .ok (.invokevirtual 348, 3) := dk_182 1 92 (dk_at dksX0_days_2 0 rfl rfl)
theorem dX0_days_47 : decode cX0_days 47 = .ok (.ireturn, 1) := dk_172 (dk_at dksX0_days_2 3 rfl rfl)
abbrev cX0_chance : ByteArray := prog_1_method_59_code
def yX0_chance : MethodName := ⟨RX0, "chance", "(I)I"⟩
def dkwX0_chance_4 : List UInt8 := [182, 1, 56, 54, 4, 42, 180, 0, 83, 21, 4, 182, 1, 81, 87, 132, 3, 1, 167, 255, 169, 28, 172]
abbrev dktX0_chance_4 : List UInt8 := dkwX0_chance_4 ++ []
def dkwX0_chance_3 : List UInt8 := [54, 4, 167, 0, 27, 42, 180, 0, 83, 42, 180, 0, 31, 180, 1, 89, 42, 180, 0, 83, 180, 0, 208, 46]
abbrev dktX0_chance_3 : List UInt8 := dkwX0_chance_3 ++ dktX0_chance_4
def dkwX0_chance_2 : List UInt8 := [182, 1, 125, 42, 180, 0, 31, 180, 1, 128, 162, 0, 19, 132, 2, 1, 42, 42, 182, 1, 29, 182, 1, 125]
abbrev dktX0_chance_2 : List UInt8 := dkwX0_chance_2 ++ dktX0_chance_3
def dkwX0_chance_1 : List UInt8 := [62, 29, 27, 162, 0, 88, 2, 54, 4, 42, 180, 0, 83, 182, 0, 215, 154, 0, 35, 42, 16, 100]
abbrev dktX0_chance_1 : List UInt8 := dkwX0_chance_1 ++ dktX0_chance_2
def dkwX0_chance_0 : List UInt8 := [42, 27, 4, 16, 30, 182, 1, 74, 154, 0, 9, 42, 6, 182, 0, 120, 172, 42, 182, 1, 113, 3, 61, 3]
abbrev dktX0_chance_0 : List UInt8 := dkwX0_chance_0 ++ dktX0_chance_1
theorem dksX0_chance_0 : cX0_chance.data.toList.drop 0 = dktX0_chance_0 := by decide +kernel
theorem dksX0_chance_1 : cX0_chance.data.toList.drop 24 = dktX0_chance_1 := dk_seg dksX0_chance_0 24 rfl rfl
theorem dksX0_chance_2 : cX0_chance.data.toList.drop 46 = dktX0_chance_2 := dk_seg dksX0_chance_1 22 rfl rfl
theorem dksX0_chance_3 : cX0_chance.data.toList.drop 70 = dktX0_chance_3 := dk_seg dksX0_chance_2 24 rfl rfl
theorem dksX0_chance_4 : cX0_chance.data.toList.drop 94 = dktX0_chance_4 := dk_seg dksX0_chance_3 24 rfl rfl
theorem dX0_chance_0 : decode cX0_chance 0 = .ok (.aload_n 0, 1) := dk_42 (dk_at dksX0_chance_0 0 rfl rfl)
theorem dX0_chance_1 : decode cX0_chance 1 = .ok (.iload_n 1, 1) := dk_27 (dk_at dksX0_chance_0 1 rfl rfl)
theorem dX0_chance_2 : decode cX0_chance 2 = .ok (.iconst 1, 1) := dk_4 (dk_at dksX0_chance_0 2 rfl rfl)
theorem dX0_chance_3 : decode cX0_chance 3 = .ok (.bipush 30, 2) := dk_16 30 (dk_at dksX0_chance_0 3 rfl rfl)
theorem dX0_chance_5 : decode cX0_chance 5 = .ok (.invokevirtual 330, 3) := dk_182 1 74 (dk_at dksX0_chance_0 5 rfl rfl)
theorem dX0_chance_8 : decode cX0_chance 8 = .ok (.ifCond .ne 9, 3) := dk_154 0 9 (dk_at dksX0_chance_0 8 rfl rfl)
theorem dX0_chance_11 : decode cX0_chance 11 = .ok (.aload_n 0, 1) := dk_42 (dk_at dksX0_chance_0 11 rfl rfl)
theorem dX0_chance_12 : decode cX0_chance 12 = .ok (.iconst 3, 1) := dk_6 (dk_at dksX0_chance_0 12 rfl rfl)
theorem dX0_chance_13 : decode cX0_chance 13 = .ok (.invokevirtual 120, 3) := dk_182 0 120 (dk_at dksX0_chance_0 13 rfl rfl)
theorem dX0_chance_16 : decode cX0_chance 16 = .ok (.ireturn, 1) := dk_172 (dk_at dksX0_chance_0 16 rfl rfl)
theorem dX0_chance_17 : decode cX0_chance 17 = .ok (.aload_n 0, 1) := dk_42 (dk_at dksX0_chance_0 17 rfl rfl)
theorem dX0_chance_18 : decode cX0_chance 18 = .ok (.invokevirtual 369, 3) := dk_182 1 113 (dk_at dksX0_chance_0 18 rfl rfl)
theorem dX0_chance_21 : decode cX0_chance 21 = .ok (.iconst 0, 1) := dk_3 (dk_at dksX0_chance_0 21 rfl rfl)
theorem dX0_chance_22 : decode cX0_chance 22 = .ok (.istore_n 2, 1) := dk_61 (dk_at dksX0_chance_0 22 rfl rfl)
theorem dX0_chance_23 : decode cX0_chance 23 = .ok (.iconst 0, 1) := dk_3 (dk_at dksX0_chance_0 23 rfl rfl)
theorem dX0_chance_24 : decode cX0_chance 24 = .ok (.istore_n 3, 1) := dk_62 (dk_at dksX0_chance_1 0 rfl rfl)
theorem dX0_chance_25 : decode cX0_chance 25 = .ok (.iload_n 3, 1) := dk_29 (dk_at dksX0_chance_1 1 rfl rfl)
theorem dX0_chance_26 : decode cX0_chance 26 = .ok (.iload_n 1, 1) := dk_27 (dk_at dksX0_chance_1 2 rfl rfl)
theorem dX0_chance_27 : decode cX0_chance 27 = .ok (.if_icmp .ge 88, 3) := dk_162 0 88 (dk_at dksX0_chance_1 3 rfl rfl)
theorem dX0_chance_30 : decode cX0_chance 30 = .ok (.iconst (-1), 1) := dk_2 (dk_at dksX0_chance_1 6 rfl rfl)
theorem dX0_chance_31 : decode cX0_chance 31 = .ok (.istore 4, 2) := dk_54 4 (dk_at dksX0_chance_1 7 rfl rfl)
theorem dX0_chance_33 : decode cX0_chance 33 = .ok (.aload_n 0, 1) := dk_42 (dk_at dksX0_chance_1 9 rfl rfl)
theorem dX0_chance_34 : decode cX0_chance 34 = .ok (.getfield 83, 3) := dk_180 0 83 (dk_at dksX0_chance_1 10 rfl rfl)
theorem dX0_chance_37 : decode cX0_chance 37 = .ok (.invokevirtual 215, 3) := dk_182 0 215 (dk_at dksX0_chance_1 13 rfl rfl)
theorem dX0_chance_40 : decode cX0_chance 40 = .ok (.ifCond .ne 35, 3) := dk_154 0 35 (dk_at dksX0_chance_1 16 rfl rfl)
theorem dX0_chance_43 : decode cX0_chance 43 = .ok (.aload_n 0, 1) := dk_42 (dk_at dksX0_chance_1 19 rfl rfl)
theorem dX0_chance_44 : decode cX0_chance 44 = .ok (.bipush 100, 2) := dk_16 100 (dk_at dksX0_chance_1 20 rfl rfl)
theorem dX0_chance_46 : decode cX0_chance 46 = .ok (.invokevirtual 381, 3) := dk_182 1 125 (dk_at dksX0_chance_2 0 rfl rfl)
theorem dX0_chance_49 : decode cX0_chance 49 = .ok (.aload_n 0, 1) := dk_42 (dk_at dksX0_chance_2 3 rfl rfl)
theorem dX0_chance_50 : decode cX0_chance 50 = .ok (.getfield 31, 3) := dk_180 0 31 (dk_at dksX0_chance_2 4 rfl rfl)
theorem dX0_chance_53 : decode cX0_chance 53 = .ok (.getfield 384, 3) := dk_180 1 128 (dk_at dksX0_chance_2 7 rfl rfl)
theorem dX0_chance_56 : decode cX0_chance 56 = .ok (.if_icmp .ge 19, 3) := dk_162 0 19 (dk_at dksX0_chance_2 10 rfl rfl)
theorem dX0_chance_59 : decode cX0_chance 59 = .ok (.iinc 2 1, 3) := dk_132 2 1 (dk_at dksX0_chance_2 13 rfl rfl)
theorem dX0_chance_62 : decode cX0_chance 62 = .ok (.aload_n 0, 1) := dk_42 (dk_at dksX0_chance_2 16 rfl rfl)
theorem dX0_chance_63 : decode cX0_chance 63 = .ok (.aload_n 0, 1) := dk_42 (dk_at dksX0_chance_2 17 rfl rfl)
theorem dX0_chance_64 : decode cX0_chance 64 = .ok (.invokevirtual 285, 3) := dk_182 1 29 (dk_at dksX0_chance_2 18 rfl rfl)
theorem dX0_chance_67 : decode cX0_chance 67 = .ok (.invokevirtual 381, 3) := dk_182 1 125 (dk_at dksX0_chance_2 21 rfl rfl)
theorem dX0_chance_70 : decode cX0_chance 70 = .ok (.istore 4, 2) := dk_54 4 (dk_at dksX0_chance_3 0 rfl rfl)
theorem dX0_chance_72 : decode cX0_chance 72 = .ok (.goto 27, 3) := dk_167 0 27 (dk_at dksX0_chance_3 2 rfl rfl)
theorem dX0_chance_75 : decode cX0_chance 75 = .ok (.aload_n 0, 1) := dk_42 (dk_at dksX0_chance_3 5 rfl rfl)
theorem dX0_chance_76 : decode cX0_chance 76 = .ok (.getfield 83, 3) := dk_180 0 83 (dk_at dksX0_chance_3 6 rfl rfl)
theorem dX0_chance_79 : decode cX0_chance 79 = .ok (.aload_n 0, 1) := dk_42 (dk_at dksX0_chance_3 9 rfl rfl)
theorem dX0_chance_80 : decode cX0_chance 80 = .ok (.getfield 31, 3) := dk_180 0 31 (dk_at dksX0_chance_3 10 rfl rfl)
theorem dX0_chance_83 : decode cX0_chance 83 = .ok (.getfield 345, 3) := dk_180 1 89 (dk_at dksX0_chance_3 13 rfl rfl)
theorem dX0_chance_86 : decode cX0_chance 86 = .ok (.aload_n 0, 1) := dk_42 (dk_at dksX0_chance_3 16 rfl rfl)
theorem dX0_chance_87 : decode cX0_chance 87 = .ok (.getfield 83, 3) := dk_180 0 83 (dk_at dksX0_chance_3 17 rfl rfl)
theorem dX0_chance_90 : decode cX0_chance 90 = .ok (.getfield 208, 3) := dk_180 0 208 (dk_at dksX0_chance_3 20 rfl rfl)
theorem dX0_chance_93 : decode cX0_chance 93 = .ok (.iaload, 1) := dk_46 (dk_at dksX0_chance_3 23 rfl rfl)
theorem dX0_chance_94 : decode cX0_chance 94 = .ok (.invokevirtual 312, 3) := dk_182 1 56 (dk_at dksX0_chance_4 0 rfl rfl)
theorem dX0_chance_97 : decode cX0_chance 97 = .ok (.istore 4, 2) := dk_54 4 (dk_at dksX0_chance_4 3 rfl rfl)
theorem dX0_chance_99 : decode cX0_chance 99 = .ok (.aload_n 0, 1) := dk_42 (dk_at dksX0_chance_4 5 rfl rfl)
theorem dX0_chance_100 : decode cX0_chance 100 = .ok (.getfield 83, 3) := dk_180 0 83 (dk_at dksX0_chance_4 6 rfl rfl)
theorem dX0_chance_103 : decode cX0_chance 103 = .ok (.iload 4, 2) := dk_21 4 (dk_at dksX0_chance_4 9 rfl rfl)
theorem dX0_chance_105 : decode cX0_chance 105 = .ok (.invokevirtual 337, 3) := dk_182 1 81 (dk_at dksX0_chance_4 11 rfl rfl)
theorem dX0_chance_108 : decode cX0_chance 108 = .ok (.pop, 1) := dk_87 (dk_at dksX0_chance_4 14 rfl rfl)
theorem dX0_chance_109 : decode cX0_chance 109 = .ok (.iinc 3 1, 3) := dk_132 3 1 (dk_at dksX0_chance_4 15 rfl rfl)
theorem dX0_chance_112 : decode cX0_chance 112 = .ok (.goto (-87), 3) := dk_167 255 169 (dk_at dksX0_chance_4 18 rfl rfl)
theorem dX0_chance_115 : decode cX0_chance 115 = .ok (.iload_n 2, 1) := dk_28 (dk_at dksX0_chance_4 21 rfl rfl)
theorem dX0_chance_116 : decode cX0_chance 116 = .ok (.ireturn, 1) := dk_172 (dk_at dksX0_chance_4 22 rfl rfl)
