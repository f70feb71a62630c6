set_option maxRecDepth 100000
abbrev cX7_nameOf : ByteArray := prog_25_method_19_code
def yX7_nameOf : MethodName := ⟨RX7, "nameOf", "(IJ)I"⟩
def dkwX7_nameOf_1 : List UInt8 := [96, 47, 32, 148, 154, 0, 6, 21, 4, 172, 132, 4, 1, 167, 255, 222, 2, 172]
abbrev dktX7_nameOf_1 : List UInt8 := dkwX7_nameOf_1 ++ []
def dkwX7_nameOf_0 : List UInt8 := [3, 54, 4, 21, 4, 42, 180, 0, 120, 27, 46, 162, 0, 29, 42, 180, 0, 123, 16, 8, 27, 104, 21, 4]
abbrev dktX7_nameOf_0 : List UInt8 := dkwX7_nameOf_0 ++ dktX7_nameOf_1
theorem dksX7_nameOf_0 : cX7_nameOf.data.toList.drop 0 = dktX7_nameOf_0 := by decide +kernel
theorem dksX7_nameOf_1 : cX7_nameOf.data.toList.drop 24 = dktX7_nameOf_1 := dk_seg dksX7_nameOf_0 24 rfl rfl
theorem dX7_nameOf_0 : decode cX7_nameOf 0 = .ok (.iconst 0, 1) := dk_3 (dk_at dksX7_nameOf_0 0 rfl rfl)
theorem dX7_nameOf_1 : decode cX7_nameOf 1 = .ok (.istore 4, 2) := dk_54 4 (dk_at dksX7_nameOf_0 1 rfl rfl)
theorem dX7_nameOf_3 : decode cX7_nameOf 3 = .ok (.iload 4, 2) := dk_21 4 (dk_at dksX7_nameOf_0 3 rfl rfl)
theorem dX7_nameOf_5 : decode cX7_nameOf 5 = .ok (.aload_n 0, 1) := dk_42 (dk_at dksX7_nameOf_0 5 rfl rfl)
theorem dX7_nameOf_6 : decode cX7_nameOf 6 = .ok (.getfield 120, 3) := dk_180 0 120 (dk_at dksX7_nameOf_0 6 rfl rfl)
theorem dX7_nameOf_9 : decode cX7_nameOf 9 = .ok (.iload_n 1, 1) := dk_27 (dk_at dksX7_nameOf_0 9 rfl rfl)
theorem dX7_nameOf_10 : decode cX7_nameOf 10 = .ok (.iaload, 1) := dk_46 (dk_at dksX7_nameOf_0 10 rfl rfl)
theorem dX7_nameOf_11 : decode cX7_nameOf 11 = .ok (.if_icmp .ge 29, 3) := dk_162 0 29 (dk_at dksX7_nameOf_0 11 rfl rfl)
theorem dX7_nameOf_14 : decode cX7_nameOf 14 = .ok (.aload_n 0, 1) := dk_42 (dk_at dksX7_nameOf_0 14 rfl rfl)
theorem dX7_nameOf_15 : decode cX7_nameOf 15 = .ok (.getfield 123, 3) := dk_180 0 123 (dk_at dksX7_nameOf_0 15 rfl rfl)
theorem dX7_nameOf_18 : decode cX7_nameOf 18 = .ok (.bipush 8, 2) := dk_16 8 (dk_at dksX7_nameOf_0 18 rfl rfl)
theorem dX7_nameOf_20 : decode cX7_nameOf 20 = .ok (.iload_n 1, 1) := dk_27 (dk_at dksX7_nameOf_0 20 rfl rfl)
theorem dX7_nameOf_21 : decode cX7_nameOf 21 = .ok (.imul, 1) := dk_104 (dk_at dksX7_nameOf_0 21 rfl rfl)
theorem dX7_nameOf_22 : decode cX7_nameOf 22 = .ok (.iload 4, 2) := dk_21 4 (dk_at dksX7_nameOf_0 22 rfl rfl)
theorem dX7_nameOf_24 : decode cX7_nameOf 24 = .ok (.iadd, 1) := dk_96 (dk_at dksX7_nameOf_1 0 rfl rfl)
theorem dX7_nameOf_25 : decode cX7_nameOf 25 = .ok (.laload, 1) := dk_47 (dk_at dksX7_nameOf_1 1 rfl rfl)
theorem dX7_nameOf_26 : decode cX7_nameOf 26 = .ok (.lload_n 2, 1) := dk_32 (dk_at dksX7_nameOf_1 2 rfl rfl)
theorem dX7_nameOf_27 : decode cX7_nameOf 27 = .ok (.lcmp, 1) := dk_148 (dk_at dksX7_nameOf_1 3 rfl rfl)
theorem dX7_nameOf_28 : decode cX7_nameOf 28 = .ok (.ifCond .ne 6, 3) := dk_154 0 6 (dk_at dksX7_nameOf_1 4 rfl rfl)
theorem dX7_nameOf_31 : decode cX7_nameOf 31 = .ok (.iload 4, 2) := dk_21 4 (dk_at dksX7_nameOf_1 7 rfl rfl)
theorem dX7_nameOf_33 : decode cX7_nameOf 33 = .ok (.ireturn, 1) := dk_172 (dk_at dksX7_nameOf_1 9 rfl rfl)
theorem dX7_nameOf_34 : decode cX7_nameOf 34 = .ok (.iinc 4 1, 3) := dk_132 4 1 (dk_at dksX7_nameOf_1 10 rfl rfl)
theorem dX7_nameOf_37 : decode cX7_nameOf 37 = .ok (.goto (-34), 3) := dk_167 255 222 (dk_at dksX7_nameOf_1 13 rfl rfl)
theorem dX7_nameOf_40 : decode cX7_nameOf 40 = .ok (.iconst (-1), 1) := dk_2 (dk_at dksX7_nameOf_1 16 rfl rfl)
theorem dX7_nameOf_41 : decode cX7_nameOf 41 = .ok (.ireturn, 1) := dk_172 (dk_at dksX7_nameOf_1 17 rfl rfl)
abbrev cX7_adds : ByteArray := prog_25_method_21_code
def yX7_adds : MethodName := ⟨RX7, "adds", "(IJ)I"⟩
def dkwX7_adds_1 : List UInt8 := [4, 96, 79, 42, 180, 0, 120, 27, 46, 4, 100, 172]
abbrev dktX7_adds_1 : List UInt8 := dkwX7_adds_1 ++ []
def dkwX7_adds_0 : List UInt8 := [42, 180, 0, 123, 16, 8, 27, 104, 42, 180, 0, 120, 27, 46, 96, 32, 80, 42, 180, 0, 120, 27, 92, 46]
abbrev dktX7_adds_0 : List UInt8 := dkwX7_adds_0 ++ dktX7_adds_1
theorem dksX7_adds_0 : cX7_adds.data.toList.drop 0 = dktX7_adds_0 := by decide +kernel
theorem dksX7_adds_1 : cX7_adds.data.toList.drop 24 = dktX7_adds_1 := dk_seg dksX7_adds_0 24 rfl rfl
theorem dX7_adds_0 : decode cX7_adds 0 = .ok (.aload_n 0, 1) := dk_42 (dk_at dksX7_adds_0 0 rfl rfl)
theorem dX7_adds_1 : decode cX7_adds 1 = .ok (.getfield 123, 3) := dk_180 0 123 (dk_at dksX7_adds_0 1 rfl rfl)
theorem dX7_adds_4 : decode cX7_adds 4 = .ok (.bipush 8, 2) := dk_16 8 (dk_at dksX7_adds_0 4 rfl rfl)
theorem dX7_adds_6 : decode cX7_adds 6 = .ok (.iload_n 1, 1) := dk_27 (dk_at dksX7_adds_0 6 rfl rfl)
theorem dX7_adds_7 : decode cX7_adds 7 = .ok (.imul, 1) := dk_104 (dk_at dksX7_adds_0 7 rfl rfl)
theorem dX7_adds_8 : decode cX7_adds 8 = .ok (.aload_n 0, 1) := dk_42 (dk_at dksX7_adds_0 8 rfl rfl)
theorem dX7_adds_9 : decode cX7_adds 9 = .ok (.getfield 120, 3) := dk_180 0 120 (dk_at dksX7_adds_0 9 rfl rfl)
theorem dX7_adds_12 : decode cX7_adds 12 = .ok (.iload_n 1, 1) := dk_27 (dk_at dksX7_adds_0 12 rfl rfl)
theorem dX7_adds_13 : decode cX7_adds 13 = .ok (.iaload, 1) := dk_46 (dk_at dksX7_adds_0 13 rfl rfl)
theorem dX7_adds_14 : decode cX7_adds 14 = .ok (.iadd, 1) := dk_96 (dk_at dksX7_adds_0 14 rfl rfl)
theorem dX7_adds_15 : decode cX7_adds 15 = .ok (.lload_n 2, 1) := dk_32 (dk_at dksX7_adds_0 15 rfl rfl)
theorem dX7_adds_16 : decode cX7_adds 16 = .ok (.lastore, 1) := dk_80 (dk_at dksX7_adds_0 16 rfl rfl)
theorem dX7_adds_17 : decode cX7_adds 17 = .ok (.aload_n 0, 1) := dk_42 (dk_at dksX7_adds_0 17 rfl rfl)
theorem dX7_adds_18 : decode cX7_adds 18 = .ok (.getfield 120, 3) := dk_180 0 120 (dk_at dksX7_adds_0 18 rfl rfl)
theorem dX7_adds_21 : decode cX7_adds 21 = .ok (.iload_n 1, 1) := dk_27 (dk_at dksX7_adds_0 21 rfl rfl)
theorem dX7_adds_22 : decode cX7_adds 22 = .ok (.dup2, 1) := dk_92 (dk_at dksX7_adds_0 22 rfl rfl)
theorem dX7_adds_23 : decode cX7_adds 23 = .ok (.iaload, 1) := dk_46 (dk_at dksX7_adds_0 23 rfl rfl)
theorem dX7_adds_24 : decode cX7_adds 24 = .ok (.iconst 1, 1) := dk_4 (dk_at dksX7_adds_1 0 rfl rfl)
theorem dX7_adds_25 : decode cX7_adds 25 = .ok (.iadd, 1) := dk_96 (dk_at dksX7_adds_1 1 rfl rfl)
theorem dX7_adds_26 : decode cX7_adds 26 = .ok (.iastore, 1) := dk_79 (dk_at dksX7_adds_1 2 rfl rfl)
theorem dX7_adds_27 : decode cX7_adds 27 = .ok (.aload_n 0, 1) := dk_42 (dk_at dksX7_adds_1 3 rfl rfl)
theorem dX7_adds_28 : decode cX7_adds 28 = .ok (.getfield 120, 3) := dk_180 0 120 (dk_at dksX7_adds_1 4 rfl rfl)
theorem dX7_adds_31 : decode cX7_adds 31 = .ok (.iload_n 1, 1) := dk_27 (dk_at dksX7_adds_1 7 rfl rfl)
theorem dX7_adds_32 : decode cX7_adds 32 = .ok (.iaload, 1) := dk_46 (dk_at dksX7_adds_1 8 rfl rfl)
theorem dX7_adds_33 : decode cX7_adds 33 = .ok (.iconst 1, 1) := dk_4 (dk_at dksX7_adds_1 9 rfl rfl)
theorem dX7_adds_34 : decode cX7_adds 34 = .ok (.isub, 1) := dk_100 (dk_at dksX7_adds_1 10 rfl rfl)
theorem dX7_adds_35 : decode cX7_adds 35 = .ok (.ireturn, 1) := dk_172 (dk_at dksX7_adds_1 11 rfl rfl)
abbrev cX7_manTold : ByteArray := prog_25_method_25_code
def yX7_manTold : MethodName := ⟨RX7, "manTold", "(I)V"⟩
def dkwX7_manTold_9 : List UInt8 := [79, 42, 180, 0, 136, 21, 8, 4, 96, 42, 180, 1, 117, 79, 177]
abbrev dktX7_manTold_9 : List UInt8 := dkwX7_manTold_9 ++ []
def dkwX7_manTold_8 : List UInt8 := [21, 6, 79, 42, 180, 0, 133, 21, 8, 4, 96, 21, 7, 79, 42, 180, 0, 136, 21, 8, 42, 180, 1, 114]
abbrev dktX7_manTold_8 : List UInt8 := dkwX7_manTold_8 ++ dktX7_manTold_9
def dkwX7_manTold_7 : List UInt8 := [180, 1, 22, 153, 0, 4, 177, 5, 42, 4, 32, 182, 1, 111, 104, 54, 8, 42, 180, 0, 133, 21, 8]
abbrev dktX7_manTold_7 : List UInt8 := dkwX7_manTold_7 ++ dktX7_manTold_8
def dkwX7_manTold_6 : List UInt8 := [180, 1, 117, 160, 0, 12, 42, 5, 42, 180, 1, 62, 182, 1, 52, 132, 8, 1, 167, 255, 192, 42]
abbrev dktX7_manTold_6 : List UInt8 := dkwX7_manTold_6 ++ dktX7_manTold_7
def dkwX7_manTold_5 : List UInt8 := [5, 21, 8, 104, 46, 42, 180, 1, 114, 160, 0, 30, 42, 180, 0, 136, 5, 21, 8, 104, 4, 96, 46, 42]
abbrev dktX7_manTold_5 : List UInt8 := dkwX7_manTold_5 ++ dktX7_manTold_6
def dkwX7_manTold_4 : List UInt8 := [54, 8, 21, 8, 42, 180, 0, 120, 4, 46, 162, 0, 59, 42, 180, 1, 22, 154, 0, 46, 42, 180, 0, 136]
abbrev dktX7_manTold_4 : List UInt8 := dkwX7_manTold_4 ++ dktX7_manTold_5
def dkwX7_manTold_3 : List UInt8 := [182, 1, 92, 42, 3, 4, 182, 1, 96, 54, 7, 42, 42, 180, 0, 57, 182, 1, 92, 42, 182, 1, 120, 3]
abbrev dktX7_manTold_3 : List UInt8 := dkwX7_manTold_3 ++ dktX7_manTold_4
def dkwX7_manTold_2 : List UInt8 := [154, 0, 18, 21, 6, 2, 160, 0, 12, 42, 6, 42, 180, 1, 73, 182, 1, 52, 42, 42, 180, 0, 54]
abbrev dktX7_manTold_2 : List UInt8 := dkwX7_manTold_2 ++ dktX7_manTold_3
def dkwX7_manTold_1 : List UInt8 := [182, 1, 92, 42, 182, 1, 84, 55, 4, 42, 3, 22, 4, 182, 1, 88, 54, 6, 42, 180, 1, 22]
abbrev dktX7_manTold_1 : List UInt8 := dkwX7_manTold_1 ++ dktX7_manTold_2
def dkwX7_manTold_0 : List UInt8 := [42, 4, 16, 8, 27, 182, 1, 104, 153, 0, 4, 177, 42, 182, 1, 108, 65, 42, 42, 180, 0, 51]
abbrev dktX7_manTold_0 : List UInt8 := dkwX7_manTold_0 ++ dktX7_manTold_1
theorem dksX7_manTold_0 : cX7_manTold.data.toList.drop 0 = dktX7_manTold_0 := by decide +kernel
theorem dksX7_manTold_1 : cX7_manTold.data.toList.drop 22 = dktX7_manTold_1 := dk_seg dksX7_manTold_0 22 rfl rfl
theorem dksX7_manTold_2 : cX7_manTold.data.toList.drop 44 = dktX7_manTold_2 := dk_seg dksX7_manTold_1 22 rfl rfl
theorem dksX7_manTold_3 : cX7_manTold.data.toList.drop 67 = dktX7_manTold_3 := dk_seg dksX7_manTold_2 23 rfl rfl
theorem dksX7_manTold_4 : cX7_manTold.data.toList.drop 91 = dktX7_manTold_4 := dk_seg dksX7_manTold_3 24 rfl rfl
theorem dksX7_manTold_5 : cX7_manTold.data.toList.drop 115 = dktX7_manTold_5 := dk_seg dksX7_manTold_4 24 rfl rfl
theorem dksX7_manTold_6 : cX7_manTold.data.toList.drop 139 = dktX7_manTold_6 := dk_seg dksX7_manTold_5 24 rfl rfl
theorem dksX7_manTold_7 : cX7_manTold.data.toList.drop 161 = dktX7_manTold_7 := dk_seg dksX7_manTold_6 22 rfl rfl
theorem dksX7_manTold_8 : cX7_manTold.data.toList.drop 184 = dktX7_manTold_8 := dk_seg dksX7_manTold_7 23 rfl rfl
theorem dksX7_manTold_9 : cX7_manTold.data.toList.drop 208 = dktX7_manTold_9 := dk_seg dksX7_manTold_8 24 rfl rfl
theorem dX7_manTold_0 : decode cX7_manTold 0 = .ok (.aload_n 0, 1) := dk_42 (dk_at dksX7_manTold_0 0 rfl rfl)
theorem dX7_manTold_1 : decode cX7_manTold 1 = .ok (.iconst 1, 1) := dk_4 (dk_at dksX7_manTold_0 1 rfl rfl)
theorem dX7_manTold_2 : decode cX7_manTold 2 = .ok (.bipush 8, 2) := dk_16 8 (dk_at dksX7_manTold_0 2 rfl rfl)
theorem dX7_manTold_4 : decode cX7_manTold 4 = .ok (.iload_n 1, 1) := dk_27 (dk_at dksX7_manTold_0 4 rfl rfl)
theorem dX7_manTold_5 : decode cX7_manTold 5 = .ok (.invokevirtual 360, 3) := dk_182 1 104 (dk_at dksX7_manTold_0 5 rfl rfl)
theorem dX7_manTold_8 : decode cX7_manTold 8 = .ok (.ifCond .eq 4, 3) := dk_153 0 4 (dk_at dksX7_manTold_0 8 rfl rfl)
theorem dX7_manTold_11 : decode cX7_manTold 11 = .ok (.return_, 1) := dk_177 (dk_at dksX7_manTold_0 11 rfl rfl)
theorem dX7_manTold_12 : decode cX7_manTold 12 = .ok (.aload_n 0, 1) := dk_42 (dk_at dksX7_manTold_0 12 rfl rfl)
theorem dX7_manTold_13 : decode cX7_manTold 13 = .ok (.invokevirtual 364, 3) := dk_182 1 108 (dk_at dksX7_manTold_0 13 rfl rfl)
theorem dX7_manTold_16 : decode cX7_manTold 16 = .ok (.lstore_n 2, 1) := dk_65 (dk_at dksX7_manTold_0 16 rfl rfl)
theorem dX7_manTold_17 : decode cX7_manTold 17 = .ok (.aload_n 0, 1) := dk_42 (dk_at dksX7_manTold_0 17 rfl rfl)
theorem dX7_manTold_18 : decode cX7_manTold 18 = .ok (.aload_n 0, 1) := dk_42 (dk_at dksX7_manTold_0 18 rfl rfl)
theorem dX7_manTold_19 : decode cX7_manTold 19 = .ok (.getfield 51, 3) := dk_180 0 51 (dk_at dksX7_manTold_0 19 rfl rfl)
theorem dX7_manTold_22 : decode cX7_manTold 22 = .ok (.invokevirtual 348, 3) := dk_182 1 92 (dk_at dksX7_manTold_1 0 rfl rfl)
theorem dX7_manTold_25 : decode cX7_manTold 25 = .ok (.aload_n 0, 1) := dk_42 (dk_at dksX7_manTold_1 3 rfl rfl)
theorem dX7_manTold_26 : decode cX7_manTold 26 = .ok (.invokevirtual 340, 3) := dk_182 1 84 (dk_at dksX7_manTold_1 4 rfl rfl)
theorem dX7_manTold_29 : decode cX7_manTold 29 = .ok (.lstore 4, 2) := dk_55 4 (dk_at dksX7_manTold_1 7 rfl rfl)
theorem dX7_manTold_31 : decode cX7_manTold 31 = .ok (.aload_n 0, 1) := dk_42 (dk_at dksX7_manTold_1 9 rfl rfl)
theorem dX7_manTold_32 : decode cX7_manTold 32 = .ok (.iconst 0, 1) := dk_3 (dk_at dksX7_manTold_1 10 rfl rfl)
theorem dX7_manTold_33 : decode cX7_manTold 33 = .ok (.lload 4, 2) := dk_22 4 (dk_at dksX7_manTold_1 11 rfl rfl)
theorem dX7_manTold_35 : decode cX7_manTold 35 = .ok (.invokevirtual 344, 3) := dk_182 1 88 (dk_at dksX7_manTold_1 13 rfl rfl)
theorem dX7_manTold_38 : decode cX7_manTold 38 = .ok (.istore 6, 2) := dk_54 6 (dk_at dksX7_manTold_1 16 rfl rfl)
theorem dX7_manTold_40 : decode cX7_manTold 40 = .ok (.aload_n 0, 1) := dk_42 (dk_at dksX7_manTold_1 18 rfl rfl)
theorem dX7_manTold_41 : decode cX7_manTold 41 = .ok (.getfield 278, 3) := dk_180 1 22 (dk_at dksX7_manTold_1 19 rfl rfl)
theorem dX7_manTold_44 : decode cX7_manTold 44 = .ok (.ifCond .ne 18, 3) := dk_154 0 18 (dk_at dksX7_manTold_2 0 rfl rfl)
theorem dX7_manTold_47 : decode cX7_manTold 47 = .ok (.iload 6, 2) := dk_21 6 (dk_at dksX7_manTold_2 3 rfl rfl)
theorem dX7_manTold_49 : decode cX7_manTold 49 = .ok (.iconst (-1), 1) := dk_2 (dk_at dksX7_manTold_2 5 rfl rfl)
theorem dX7_manTold_50 : decode cX7_manTold 50 = .ok (.if_icmp .ne 12, 3) := dk_160 0 12 (dk_at dksX7_manTold_2 6 rfl rfl)
theorem dX7_manTold_53 : decode cX7_manTold 53 = .ok (.aload_n 0, 1) := dk_42 (dk_at dksX7_manTold_2 9 rfl rfl)
theorem dX7_manTold_54 : decode cX7_manTold 54 = .ok (.iconst 3, 1) := dk_6 (dk_at dksX7_manTold_2 10 rfl rfl)
theorem dX7_manTold_55 : decode cX7_manTold 55 = .ok (.aload_n 0, 1) := dk_42 (dk_at dksX7_manTold_2 11 rfl rfl)
theorem dX7_manTold_56 : decode cX7_manTold 56 = .ok (.getfield 329, 3) := dk_180 1 73 (dk_at dksX7_manTold_2 12 rfl rfl)
theorem dX7_manTold_59 : decode cX7_manTold 59 = .ok (.invokevirtual 308, 3) := dk_182 1 52 (dk_at dksX7_manTold_2 15 rfl rfl)
theorem dX7_manTold_62 : decode cX7_manTold 62 = .ok (.aload_n 0, 1) := dk_42 (dk_at dksX7_manTold_2 18 rfl rfl)
theorem dX7_manTold_63 : decode cX7_manTold 63 = .ok (.aload_n 0, 1) := dk_42 (dk_at dksX7_manTold_2 19 rfl rfl)
theorem dX7_manTold_64 : decode cX7_manTold 64 = .ok (.getfield 54, 3) := dk_180 0 54 (dk_at dksX7_manTold_2 20 rfl rfl)
theorem dX7_manTold_67 : decode cX7_manTold 67 = .ok (.invokevirtual 348, 3) := dk_182 1 92 (dk_at dksX7_manTold_3 0 rfl rfl)
theorem dX7_manTold_70 : decode cX7_manTold 70 = .ok (.aload_n 0, 1) := dk_42 (dk_at dksX7_manTold_3 3 rfl rfl)
theorem dX7_manTold_71 : decode cX7_manTold 71 = .ok (.iconst 0, 1) := dk_3 (dk_at dksX7_manTold_3 4 rfl rfl)
theorem dX7_manTold_72 : decode cX7_manTold 72 = .ok (.iconst 1, 1) := dk_4 (dk_at dksX7_manTold_3 5 rfl rfl)
theorem dX7_manTold_73 : decode cX7_manTold 73 = .ok (.invokevirtual 352, 3) := dk_182 1 96 (dk_at dksX7_manTold_3 6 rfl rfl)
theorem dX7_manTold_76 : decode cX7_manTold 76 = .ok (.istore 7, 2) := dk_54 7 (dk_at dksX7_manTold_3 9 rfl rfl)
theorem dX7_manTold_78 : decode cX7_manTold 78 = .ok (.aload_n 0, 1) := dk_42 (dk_at dksX7_manTold_3 11 rfl rfl)
theorem dX7_manTold_79 : decode cX7_manTold 79 = .ok (.aload_n 0, 1) := dk_42 (dk_at dksX7_manTold_3 12 rfl rfl)
theorem dX7_manTold_80 : decode cX7_manTold 80 = .ok (.getfield 57, 3) := dk_180 0 57 (dk_at dksX7_manTold_3 13 rfl rfl)
theorem dX7_manTold_83 : decode cX7_manTold 83 = .ok (.invokevirtual 348, 3) := dk_182 1 92 (dk_at dksX7_manTold_3 16 rfl rfl)
theorem dX7_manTold_86 : decode cX7_manTold 86 = .ok (.aload_n 0, 1) := dk_42 (dk_at dksX7_manTold_3 19 rfl rfl)
theorem dX7_manTold_87 : decode cX7_manTold 87 = .ok (.invokevirtual 376, 3) := dk_182 1 120 (dk_at dksX7_manTold_3 20 rfl rfl)
theorem dX7_manTold_90 : decode cX7_manTold 90 = .ok (.iconst 0, 1) := dk_3 (dk_at dksX7_manTold_3 23 rfl rfl)
theorem dX7_manTold_91 : decode cX7_manTold 91 = .ok (.istore 8, 2) := dk_54 8 (dk_at dksX7_manTold_4 0 rfl rfl)
theorem dX7_manTold_93 : decode cX7_manTold 93 = .ok (.iload 8, 2) := dk_21 8 (dk_at dksX7_manTold_4 2 rfl rfl)
theorem dX7_manTold_95 : decode cX7_manTold 95 = .ok (.aload_n 0, 1) := dk_42 (dk_at dksX7_manTold_4 4 rfl rfl)
theorem dX7_manTold_96 : decode cX7_manTold 96 = .ok (.getfield 120, 3) := dk_180 0 120 (dk_at dksX7_manTold_4 5 rfl rfl)
theorem dX7_manTold_99 : decode cX7_manTold 99 = .ok (.iconst 1, 1) := dk_4 (dk_at dksX7_manTold_4 8 rfl rfl)
theorem dX7_manTold_100 : decode cX7_manTold 100 = .ok (.iaload, 1) := dk_46 (dk_at dksX7_manTold_4 9 rfl rfl)
theorem dX7_manTold_101 : decode cX7_manTold 101 = .ok (.if_icmp .ge 59, 3) := dk_162 0 59 (dk_at dksX7_manTold_4 10 rfl rfl)
theorem dX7_manTold_104 : decode cX7_manTold 104 = .ok (.aload_n 0, 1) := dk_42 (dk_at dksX7_manTold_4 13 rfl rfl)
theorem dX7_manTold_105 : decode cX7_manTold 105 = .ok (.getfield 278, 3) := dk_180 1 22 (dk_at dksX7_manTold_4 14 rfl rfl)
theorem dX7_manTold_108 : decode cX7_manTold 108 = .ok (.ifCond .ne 46, 3) := dk_154 0 46 (dk_at dksX7_manTold_4 17 rfl rfl)
theorem dX7_manTold_111 : decode cX7_manTold 111 = .ok (.aload_n 0, 1) := dk_42 (dk_at dksX7_manTold_4 20 rfl rfl)
theorem dX7_manTold_112 : decode cX7_manTold 112 = .ok (.getfield 136, 3) := dk_180 0 136 (dk_at dksX7_manTold_4 21 rfl rfl)
theorem dX7_manTold_115 : decode cX7_manTold 115 = .ok (.iconst 2, 1) := dk_5 (dk_at dksX7_manTold_5 0 rfl rfl)
theorem dX7_manTold_116 : decode cX7_manTold 116 = .ok (.iload 8, 2) := dk_21 8 (dk_at dksX7_manTold_5 1 rfl rfl)
theorem dX7_manTold_118 : decode cX7_manTold 118 = .ok (.imul, 1) := dk_104 (dk_at dksX7_manTold_5 3 rfl rfl)
theorem dX7_manTold_119 : decode cX7_manTold 119 = .ok (.iaload, 1) := dk_46 (dk_at dksX7_manTold_5 4 rfl rfl)
theorem dX7_manTold_120 : decode cX7_manTold 120 = .ok (.aload_n 0, 1) := dk_42 (dk_at dksX7_manTold_5 5 rfl rfl)
theorem dX7_manTold_121 : decode cX7_manTold 121 = .ok (.getfield 370, 3) := dk_180 1 114 (dk_at dksX7_manTold_5 6 rfl rfl)
theorem dX7_manTold_124 : decode cX7_manTold 124 = .ok (.if_icmp .ne 30, 3) := dk_160 0 30 (dk_at dksX7_manTold_5 9 rfl rfl)
theorem dX7_manTold_127 : decode cX7_manTold 127 = .ok (.aload_n 0, 1) := dk_42 (dk_at dksX7_manTold_5 12 rfl rfl)
theorem dX7_manTold_128 : decode cX7_manTold 128 = .ok (.getfield 136, 3) := dk_180 0 136 (dk_at dksX7_manTold_5 13 rfl rfl)
theorem dX7_manTold_131 : decode cX7_manTold 131 = .ok (.iconst 2, 1) := dk_5 (dk_at dksX7_manTold_5 16 rfl rfl)
theorem dX7_manTold_132 : decode cX7_manTold 132 = .ok (.iload 8, 2) := dk_21 8 (dk_at dksX7_manTold_5 17 rfl rfl)
theorem dX7_manTold_134 : decode cX7_manTold 134 = .ok (.imul, 1) := dk_104 (dk_at dksX7_manTold_5 19 rfl rfl)
theorem dX7_manTold_135 : decode cX7_manTold 135 = .ok (.iconst 1, 1) := dk_4 (dk_at dksX7_manTold_5 20 rfl rfl)
theorem dX7_manTold_136 : decode cX7_manTold 136 = .ok (.iadd, 1) := dk_96 (dk_at dksX7_manTold_5 21 rfl rfl)
theorem dX7_manTold_137 : decode cX7_manTold 137 = .ok (.iaload, 1) := dk_46 (dk_at dksX7_manTold_5 22 rfl rfl)
theorem dX7_manTold_138 : decode cX7_manTold 138 = .ok (.aload_n 0, 1) := dk_42 (dk_at dksX7_manTold_5 23 rfl rfl)
theorem dX7_manTold_139 : decode cX7_manTold 139 = .ok (.getfield 373, 3) := dk_180 1 117 (dk_at dksX7_manTold_6 0 rfl rfl)
theorem dX7_manTold_142 : decode cX7_manTold 142 = .ok (.if_icmp .ne 12, 3) := dk_160 0 12 (dk_at dksX7_manTold_6 3 rfl rfl)
theorem dX7_manTold_145 : decode cX7_manTold 145 = .ok (.aload_n 0, 1) := dk_42 (dk_at dksX7_manTold_6 6 rfl rfl)
theorem dX7_manTold_146 : decode cX7_manTold 146 = .ok (.iconst 2, 1) := dk_5 (dk_at dksX7_manTold_6 7 rfl rfl)
theorem dX7_manTold_147 : decode cX7_manTold 147 = .ok (.aload_n 0, 1) := dk_42 (dk_at dksX7_manTold_6 8 rfl rfl)
theorem dX7_manTold_148 : decode cX7_manTold 148 = .ok (.getfield 318, 3) := dk_180 1 62 (dk_at dksX7_manTold_6 9 rfl rfl)
theorem dX7_manTold_151 : decode cX7_manTold 151 = .ok (.invokevirtual 308, 3) := dk_182 1 52 (dk_at dksX7_manTold_6 12 rfl rfl)
theorem dX7_manTold_154 : decode cX7_manTold 154 = .ok (.iinc 8 1, 3) := dk_132 8 1 (dk_at dksX7_manTold_6 15 rfl rfl)
theorem dX7_manTold_157 : decode cX7_manTold 157 = .ok (.goto (-64), 3) := dk_167 255 192 (dk_at dksX7_manTold_6 18 rfl rfl)
theorem dX7_manTold_160 : decode cX7_manTold 160 = .ok (.aload_n 0, 1) := dk_42 (dk_at dksX7_manTold_6 21 rfl rfl)
theorem dX7_manTold_161 : decode cX7_manTold 161 = .ok (.getfield 278, 3) := dk_180 1 22 (dk_at dksX7_manTold_7 0 rfl rfl)
theorem dX7_manTold_164 : decode cX7_manTold 164 = .ok (.ifCond .eq 4, 3) := dk_153 0 4 (dk_at dksX7_manTold_7 3 rfl rfl)
theorem dX7_manTold_167 : decode cX7_manTold 167 = .ok (.return_, 1) := dk_177 (dk_at dksX7_manTold_7 6 rfl rfl)
theorem dX7_manTold_168 : decode cX7_manTold 168 = .ok (.iconst 2, 1) := dk_5 (dk_at dksX7_manTold_7 7 rfl rfl)
theorem dX7_manTold_169 : decode cX7_manTold 169 = .ok (.aload_n 0, 1) := dk_42 (dk_at dksX7_manTold_7 8 rfl rfl)
theorem dX7_manTold_170 : decode cX7_manTold 170 = .ok (.iconst 1, 1) := dk_4 (dk_at dksX7_manTold_7 9 rfl rfl)
theorem dX7_manTold_171 : decode cX7_manTold 171 = .ok (.lload_n 2, 1) := dk_32 (dk_at dksX7_manTold_7 10 rfl rfl)
theorem dX7_manTold_172 : decode cX7_manTold 172 = .ok (.invokevirtual 367, 3) := dk_182 1 111 (dk_at dksX7_manTold_7 11 rfl rfl)
theorem dX7_manTold_175 : decode cX7_manTold 175 = .ok (.imul, 1) := dk_104 (dk_at dksX7_manTold_7 14 rfl rfl)
theorem dX7_manTold_176 : decode cX7_manTold 176 = .ok (.istore 8, 2) := dk_54 8 (dk_at dksX7_manTold_7 15 rfl rfl)
theorem dX7_manTold_178 : decode cX7_manTold 178 = .ok (.aload_n 0, 1) := dk_42 (dk_at dksX7_manTold_7 17 rfl rfl)
theorem dX7_manTold_179 : decode cX7_manTold 179 = .ok (.getfield 133, 3) := dk_180 0 133 (dk_at dksX7_manTold_7 18 rfl rfl)
theorem dX7_manTold_182 : decode cX7_manTold 182 = .ok (.iload 8, 2) := dk_21 8 (dk_at dksX7_manTold_7 21 rfl rfl)
theorem dX7_manTold_184 : decode cX7_manTold 184 = .ok (.iload 6, 2) := dk_21 6 (dk_at dksX7_manTold_8 0 rfl rfl)
theorem dX7_manTold_186 : decode cX7_manTold 186 = .ok (.iastore, 1) := dk_79 (dk_at dksX7_manTold_8 2 rfl rfl)
theorem dX7_manTold_187 : decode cX7_manTold 187 = .ok (.aload_n 0, 1) := dk_42 (dk_at dksX7_manTold_8 3 rfl rfl)
theorem dX7_manTold_188 : decode cX7_manTold 188 = .ok (.getfield 133, 3) := dk_180 0 133 (dk_at dksX7_manTold_8 4 rfl rfl)
theorem dX7_manTold_191 : decode cX7_manTold 191 = .ok (.iload 8, 2) := dk_21 8 (dk_at dksX7_manTold_8 7 rfl rfl)
theorem dX7_manTold_193 : decode cX7_manTold 193 = .ok (.iconst 1, 1) := dk_4 (dk_at dksX7_manTold_8 9 rfl rfl)
theorem dX7_manTold_194 : decode cX7_manTold 194 = .ok (.iadd, 1) := dk_96 (dk_at dksX7_manTold_8 10 rfl rfl)
theorem dX7_manTold_195 : decode cX7_manTold 195 = .ok (.iload 7, 2) := dk_21 7 (dk_at dksX7_manTold_8 11 rfl rfl)
theorem dX7_manTold_197 : decode cX7_manTold 197 = .ok (.iastore, 1) := dk_79 (dk_at dksX7_manTold_8 13 rfl rfl)
theorem dX7_manTold_198 : decode cX7_manTold 198 = .ok (.aload_n 0, 1) := dk_42 (dk_at dksX7_manTold_8 14 rfl rfl)
theorem dX7_manTold_199 : decode cX7_manTold 199 = .ok (.getfield 136, 3) := dk_180 0 136 (dk_at dksX7_manTold_8 15 rfl rfl)
theorem dX7_manTold_202 : decode cX7_manTold 202 = .ok (.iload 8, 2) := dk_21 8 (dk_at dksX7_manTold_8 18 rfl rfl)
theorem dX7_manTold_204 : decode cX7_manTold 204 = .ok (.aload_n 0, 1) := dk_42 (dk_at dksX7_manTold_8 20 rfl rfl)
theorem dX7_manTold_205 : decode cX7_manTold 205 = .ok (.getfield 370, 3) := dk_180 1 114 (dk_at dksX7_manTold_8 21 rfl rfl)
theorem dX7_manTold_208 : decode cX7_manTold 208 = .ok (.iastore, 1) := dk_79 (dk_at dksX7_manTold_9 0 rfl rfl)
theorem dX7_manTold_209 : decode cX7_manTold 209 = .ok (.aload_n 0, 1) := dk_42 (dk_at dksX7_manTold_9 1 rfl rfl)
theorem dX7_manTold_210 : decode cX7_manTold 210 = .ok (.getfield 136, 3) := dk_180 0 136 (dk_at dksX7_manTold_9 2 rfl rfl)
theorem dX7_manTold_213 : decode cX7_manTold 213 = .ok (.iload 8, 2) := dk_21 8 (dk_at dksX7_manTold_9 5 rfl rfl)
theorem dX7_manTold_215 : decode cX7_manTold 215 = .ok (.iconst 1, 1) := dk_4 (dk_at dksX7_manTold_9 7 rfl rfl)
theorem dX7_manTold_216 : decode cX7_manTold 216 = .ok (.iadd, 1) := dk_96 (dk_at dksX7_manTold_9 8 rfl rfl)
theorem dX7_manTold_217 : decode cX7_manTold 217 = .ok (.aload_n 0, 1) := dk_42 (dk_at dksX7_manTold_9 9 rfl rfl)
theorem dX7_manTold_218 : decode cX7_manTold 218 = .ok (.getfield 373, 3) := dk_180 1 117 (dk_at dksX7_manTold_9 10 rfl rfl)
theorem dX7_manTold_221 : decode cX7_manTold 221 = .ok (.iastore, 1) := dk_79 (dk_at dksX7_manTold_9 13 rfl rfl)
theorem dX7_manTold_222 : decode cX7_manTold 222 = .ok (.return_, 1) := dk_177 (dk_at dksX7_manTold_9 14 rfl rfl)
abbrev cX7_placeTold : ByteArray := prog_25_method_24_code
def yX7_placeTold : MethodName := ⟨RX7, "placeTold", "()V"⟩
def dkwX7_placeTold_1 : List UInt8 := [4, 46, 4, 100, 182, 1, 96, 181, 1, 117, 177]
abbrev dktX7_placeTold_1 : List UInt8 := dkwX7_placeTold_1 ++ []
def dkwX7_placeTold_0 : List UInt8 := [42, 42, 3, 42, 180, 0, 127, 3, 46, 4, 100, 182, 1, 96, 181, 1, 114, 42, 42, 3, 42, 180, 0, 127]
abbrev dktX7_placeTold_0 : List UInt8 := dkwX7_placeTold_0 ++ dktX7_placeTold_1
theorem dksX7_placeTold_0 : cX7_placeTold.data.toList.drop 0 = dktX7_placeTold_0 := by decide +kernel
theorem dksX7_placeTold_1 : cX7_placeTold.data.toList.drop 24 = dktX7_placeTold_1 := dk_seg dksX7_placeTold_0 24 rfl rfl
theorem dX7_placeTold_0 : decode cX7_placeTold 0 = .ok (.aload_n 0, 1) := dk_42 (dk_at dksX7_placeTold_0 0 rfl rfl)
theorem dX7_placeTold_1 : decode cX7_placeTold 1 = .ok (.aload_n 0, 1) := dk_42 (dk_at dksX7_placeTold_0 1 rfl rfl)
theorem dX7_placeTold_2 : decode cX7_placeTold 2 = .ok (.iconst 0, 1) := dk_3 (dk_at dksX7_placeTold_0 2 rfl rfl)
theorem dX7_placeTold_3 : decode cX7_placeTold 3 = .ok (.aload_n 0, 1) := dk_42 (dk_at dksX7_placeTold_0 3 rfl rfl)
theorem dX7_placeTold_4 : decode cX7_placeTold 4 = .ok (.getfield 127, 3) := dk_180 0 127 (dk_at dksX7_placeTold_0 4 rfl rfl)
theorem dX7_placeTold_7 : decode cX7_placeTold 7 = .ok (.iconst 0, 1) := dk_3 (dk_at dksX7_placeTold_0 7 rfl rfl)
theorem dX7_placeTold_8 : decode cX7_placeTold 8 = .ok (.iaload, 1) := dk_46 (dk_at dksX7_placeTold_0 8 rfl rfl)
theorem dX7_placeTold_9 : decode cX7_placeTold 9 = .ok (.iconst 1, 1) := dk_4 (dk_at dksX7_placeTold_0 9 rfl rfl)
theorem dX7_placeTold_10 : decode cX7_placeTold 10 = .ok (.isub, 1) := dk_100 (dk_at dksX7_placeTold_0 10 rfl rfl)
theorem dX7_placeTold_11 : decode cX7_placeTold 11 = .ok (.invokevirtual 352, 3) := dk_182 1 96 (dk_at dksX7_placeTold_0 11 rfl rfl)
theorem dX7_placeTold_14 : decode cX7_placeTold 14 = .ok (.putfield 370, 3) := dk_181 1 114 (dk_at dksX7_placeTold_0 14 rfl rfl)
theorem dX7_placeTold_17 : decode cX7_placeTold 17 = .ok (.aload_n 0, 1) := dk_42 (dk_at dksX7_placeTold_0 17 rfl rfl)
theorem dX7_placeTold_18 : decode cX7_placeTold 18 = .ok (.aload_n 0, 1) := dk_42 (dk_at dksX7_placeTold_0 18 rfl rfl)
theorem dX7_placeTold_19 : decode cX7_placeTold 19 = .ok (.iconst 0, 1) := dk_3 (dk_at dksX7_placeTold_0 19 rfl rfl)
theorem dX7_placeTold_20 : decode cX7_placeTold 20 = .ok (.aload_n 0, 1) := dk_42 (dk_at dksX7_placeTold_0 20 rfl rfl)
theorem dX7_placeTold_21 : decode cX7_placeTold 21 = .ok (.getfield 127, 3) := dk_180 0 127 (dk_at dksX7_placeTold_0 21 rfl rfl)
theorem dX7_placeTold_24 : decode cX7_placeTold 24 = .ok (.iconst 1, 1) := dk_4 (dk_at dksX7_placeTold_1 0 rfl rfl)
theorem dX7_placeTold_25 : decode cX7_placeTold 25 = .ok (.iaload, 1) := dk_46 (dk_at dksX7_placeTold_1 1 rfl rfl)
theorem dX7_placeTold_26 : decode cX7_placeTold 26 = .ok (.iconst 1, 1) := dk_4 (dk_at dksX7_placeTold_1 2 rfl rfl)
theorem dX7_placeTold_27 : decode cX7_placeTold 27 = .ok (.isub, 1) := dk_100 (dk_at dksX7_placeTold_1 3 rfl rfl)
theorem dX7_placeTold_28 : decode cX7_placeTold 28 = .ok (.invokevirtual 352, 3) := dk_182 1 96 (dk_at dksX7_placeTold_1 4 rfl rfl)
theorem dX7_placeTold_31 : decode cX7_placeTold 31 = .ok (.putfield 373, 3) := dk_181 1 117 (dk_at dksX7_placeTold_1 7 rfl rfl)
theorem dX7_placeTold_34 : decode cX7_placeTold 34 = .ok (.return_, 1) := dk_177 (dk_at dksX7_placeTold_1 10 rfl rfl)
abbrev cX7_fieldTold : ByteArray := prog_25_method_26_code
def yX7_fieldTold : MethodName := ⟨RX7, "fieldTold", "(I)V"⟩
def dkwX7_fieldTold_4 : List UInt8 := [21, 5, 5, 96, 21, 4, 79, 177]
abbrev dktX7_fieldTold_4 : List UInt8 := dkwX7_fieldTold_4 ++ []
def dkwX7_fieldTold_3 : List UInt8 := [21, 5, 42, 180, 1, 114, 79, 42, 180, 0, 139, 21, 5, 4, 96, 42, 180, 1, 117, 79, 42, 180, 0, 139]
abbrev dktX7_fieldTold_3 : List UInt8 := dkwX7_fieldTold_3 ++ dktX7_fieldTold_4
def dkwX7_fieldTold_2 : List UInt8 := [54, 4, 42, 180, 1, 22, 153, 0, 4, 177, 6, 42, 5, 32, 182, 1, 111, 104, 54, 5, 42, 180, 0, 139]
abbrev dktX7_fieldTold_2 : List UInt8 := dkwX7_fieldTold_2 ++ dktX7_fieldTold_3
def dkwX7_fieldTold_1 : List UInt8 := [182, 1, 92, 42, 182, 1, 120, 42, 42, 180, 0, 63, 182, 1, 92, 42, 4, 17, 3, 231, 182, 1, 96]
abbrev dktX7_fieldTold_1 : List UInt8 := dkwX7_fieldTold_1 ++ dktX7_fieldTold_2
def dkwX7_fieldTold_0 : List UInt8 := [42, 5, 16, 6, 27, 182, 1, 104, 153, 0, 4, 177, 42, 182, 1, 108, 65, 42, 42, 180, 0, 57]
abbrev dktX7_fieldTold_0 : List UInt8 := dkwX7_fieldTold_0 ++ dktX7_fieldTold_1
theorem dksX7_fieldTold_0 : cX7_fieldTold.data.toList.drop 0 = dktX7_fieldTold_0 := by decide +kernel
theorem dksX7_fieldTold_1 : cX7_fieldTold.data.toList.drop 22 = dktX7_fieldTold_1 := dk_seg dksX7_fieldTold_0 22 rfl rfl
theorem dksX7_fieldTold_2 : cX7_fieldTold.data.toList.drop 45 = dktX7_fieldTold_2 := dk_seg dksX7_fieldTold_1 23 rfl rfl
theorem dksX7_fieldTold_3 : cX7_fieldTold.data.toList.drop 69 = dktX7_fieldTold_3 := dk_seg dksX7_fieldTold_2 24 rfl rfl
theorem dksX7_fieldTold_4 : cX7_fieldTold.data.toList.drop 93 = dktX7_fieldTold_4 := dk_seg dksX7_fieldTold_3 24 rfl rfl
theorem dX7_fieldTold_0 : decode cX7_fieldTold 0 = .ok (.aload_n 0, 1) := dk_42 (dk_at dksX7_fieldTold_0 0 rfl rfl)
theorem dX7_fieldTold_1 : decode cX7_fieldTold 1 = .ok (.iconst 2, 1) := dk_5 (dk_at dksX7_fieldTold_0 1 rfl rfl)
theorem dX7_fieldTold_2 : decode cX7_fieldTold 2 = .ok (.bipush 6, 2) := dk_16 6 (dk_at dksX7_fieldTold_0 2 rfl rfl)
theorem dX7_fieldTold_4 : decode cX7_fieldTold 4 = .ok (.iload_n 1, 1) := dk_27 (dk_at dksX7_fieldTold_0 4 rfl rfl)
theorem dX7_fieldTold_5 : decode cX7_fieldTold 5 = .ok (.invokevirtual 360, 3) := dk_182 1 104 (dk_at dksX7_fieldTold_0 5 rfl rfl)
theorem dX7_fieldTold_8 : decode cX7_fieldTold 8 = .ok (.ifCond .eq 4, 3) := dk_153 0 4 (dk_at dksX7_fieldTold_0 8 rfl rfl)
theorem dX7_fieldTold_11 : decode cX7_fieldTold 11 = .ok (.return_, 1) := dk_177 (dk_at dksX7_fieldTold_0 11 rfl rfl)
theorem dX7_fieldTold_12 : decode cX7_fieldTold 12 = .ok (.aload_n 0, 1) := dk_42 (dk_at dksX7_fieldTold_0 12 rfl rfl)
theorem dX7_fieldTold_13 : decode cX7_fieldTold 13 = .ok (.invokevirtual 364, 3) := dk_182 1 108 (dk_at dksX7_fieldTold_0 13 rfl rfl)
theorem dX7_fieldTold_16 : decode cX7_fieldTold 16 = .ok (.lstore_n 2, 1) := dk_65 (dk_at dksX7_fieldTold_0 16 rfl rfl)
theorem dX7_fieldTold_17 : decode cX7_fieldTold 17 = .ok (.aload_n 0, 1) := dk_42 (dk_at dksX7_fieldTold_0 17 rfl rfl)
theorem dX7_fieldTold_18 : decode cX7_fieldTold 18 = .ok (.aload_n 0, 1) := dk_42 (dk_at dksX7_fieldTold_0 18 rfl rfl)
theorem dX7_fieldTold_19 : decode cX7_fieldTold 19 = .ok (.getfield 57, 3) := dk_180 0 57 (dk_at dksX7_fieldTold_0 19 rfl rfl)
theorem dX7_fieldTold_22 : decode cX7_fieldTold 22 = .ok (.invokevirtual 348, 3) := dk_182 1 92 (dk_at dksX7_fieldTold_1 0 rfl rfl)
theorem dX7_fieldTold_25 : decode cX7_fieldTold 25 = .ok (.aload_n 0, 1) := dk_42 (dk_at dksX7_fieldTold_1 3 rfl rfl)
theorem dX7_fieldTold_26 : decode cX7_fieldTold 26 = .ok (.invokevirtual 376, 3) := dk_182 1 120 (dk_at dksX7_fieldTold_1 4 rfl rfl)
theorem dX7_fieldTold_29 : decode cX7_fieldTold 29 = .ok (.aload_n 0, 1) := dk_42 (dk_at dksX7_fieldTold_1 7 rfl rfl)
theorem dX7_fieldTold_30 : decode cX7_fieldTold 30 = .ok (.aload_n 0, 1) := dk_42 (dk_at dksX7_fieldTold_1 8 rfl rfl)
theorem dX7_fieldTold_31 : decode cX7_fieldTold 31 = .ok (.getfield 63, 3) := dk_180 0 63 (dk_at dksX7_fieldTold_1 9 rfl rfl)
theorem dX7_fieldTold_34 : decode cX7_fieldTold 34 = .ok (.invokevirtual 348, 3) := dk_182 1 92 (dk_at dksX7_fieldTold_1 12 rfl rfl)
theorem dX7_fieldTold_37 : decode cX7_fieldTold 37 = .ok (.aload_n 0, 1) := dk_42 (dk_at dksX7_fieldTold_1 15 rfl rfl)
theorem dX7_fieldTold_38 : decode cX7_fieldTold 38 = .ok (.iconst 1, 1) := dk_4 (dk_at dksX7_fieldTold_1 16 rfl rfl)
theorem dX7_fieldTold_39 : decode cX7_fieldTold 39 = .ok (.sipush 999, 3) := dk_17 3 231 (dk_at dksX7_fieldTold_1 17 rfl rfl)
theorem dX7_fieldTold_42 : decode cX7_fieldTold 42 = .ok (.invokevirtual 352, 3) := dk_182 1 96 (dk_at dksX7_fieldTold_1 20 rfl rfl)
theorem dX7_fieldTold_45 : decode cX7_fieldTold 45 = .ok (.istore 4, 2) := dk_54 4 (dk_at dksX7_fieldTold_2 0 rfl rfl)
theorem dX7_fieldTold_47 : decode cX7_fieldTold 47 = .ok (.aload_n 0, 1) := dk_42 (dk_at dksX7_fieldTold_2 2 rfl rfl)
theorem dX7_fieldTold_48 : decode cX7_fieldTold 48 = .ok (.getfield 278, 3) := dk_180 1 22 (dk_at dksX7_fieldTold_2 3 rfl rfl)
theorem dX7_fieldTold_51 : decode cX7_fieldTold 51 = .ok (.ifCond .eq 4, 3) := dk_153 0 4 (dk_at dksX7_fieldTold_2 6 rfl rfl)
theorem dX7_fieldTold_54 : decode cX7_fieldTold 54 = .ok (.return_, 1) := dk_177 (dk_at dksX7_fieldTold_2 9 rfl rfl)
theorem dX7_fieldTold_55 : decode cX7_fieldTold 55 = .ok (.iconst 3, 1) := dk_6 (dk_at dksX7_fieldTold_2 10 rfl rfl)
theorem dX7_fieldTold_56 : decode cX7_fieldTold 56 = .ok (.aload_n 0, 1) := dk_42 (dk_at dksX7_fieldTold_2 11 rfl rfl)
theorem dX7_fieldTold_57 : decode cX7_fieldTold 57 = .ok (.iconst 2, 1) := dk_5 (dk_at dksX7_fieldTold_2 12 rfl rfl)
theorem dX7_fieldTold_58 : decode cX7_fieldTold 58 = .ok (.lload_n 2, 1) := dk_32 (dk_at dksX7_fieldTold_2 13 rfl rfl)
theorem dX7_fieldTold_59 : decode cX7_fieldTold 59 = .ok (.invokevirtual 367, 3) := dk_182 1 111 (dk_at dksX7_fieldTold_2 14 rfl rfl)
theorem dX7_fieldTold_62 : decode cX7_fieldTold 62 = .ok (.imul, 1) := dk_104 (dk_at dksX7_fieldTold_2 17 rfl rfl)
theorem dX7_fieldTold_63 : decode cX7_fieldTold 63 = .ok (.istore 5, 2) := dk_54 5 (dk_at dksX7_fieldTold_2 18 rfl rfl)
theorem dX7_fieldTold_65 : decode cX7_fieldTold 65 = .ok (.aload_n 0, 1) := dk_42 (dk_at dksX7_fieldTold_2 20 rfl rfl)
theorem dX7_fieldTold_66 : decode cX7_fieldTold 66 = .ok (.getfield 139, 3) := dk_180 0 139 (dk_at dksX7_fieldTold_2 21 rfl rfl)
theorem dX7_fieldTold_69 : decode cX7_fieldTold 69 = .ok (.iload 5, 2) := dk_21 5 (dk_at dksX7_fieldTold_3 0 rfl rfl)
theorem dX7_fieldTold_71 : decode cX7_fieldTold 71 = .ok (.aload_n 0, 1) := dk_42 (dk_at dksX7_fieldTold_3 2 rfl rfl)
theorem dX7_fieldTold_72 : decode cX7_fieldTold 72 = .ok (.getfield 370, 3) := dk_180 1 114 (dk_at dksX7_fieldTold_3 3 rfl rfl)
theorem dX7_fieldTold_75 : decode cX7_fieldTold 75 = .ok (.iastore, 1) := dk_79 (dk_at dksX7_fieldTold_3 6 rfl rfl)
theorem dX7_fieldTold_76 : decode cX7_fieldTold 76 = .ok (.aload_n 0, 1) := dk_42 (dk_at dksX7_fieldTold_3 7 rfl rfl)
theorem dX7_fieldTold_77 : decode cX7_fieldTold 77 = .ok (.getfield 139, 3) := dk_180 0 139 (dk_at dksX7_fieldTold_3 8 rfl rfl)
theorem dX7_fieldTold_80 : decode cX7_fieldTold 80 = .ok (.iload 5, 2) := dk_21 5 (dk_at dksX7_fieldTold_3 11 rfl rfl)
theorem dX7_fieldTold_82 : decode cX7_fieldTold 82 = .ok (.iconst 1, 1) := dk_4 (dk_at dksX7_fieldTold_3 13 rfl rfl)
theorem dX7_fieldTold_83 : decode cX7_fieldTold 83 = .ok (.iadd, 1) := dk_96 (dk_at dksX7_fieldTold_3 14 rfl rfl)
theorem dX7_fieldTold_84 : decode cX7_fieldTold 84 = .ok (.aload_n 0, 1) := dk_42 (dk_at dksX7_fieldTold_3 15 rfl rfl)
theorem dX7_fieldTold_85 : decode cX7_fieldTold 85 = .ok (.getfield 373, 3) := dk_180 1 117 (dk_at dksX7_fieldTold_3 16 rfl rfl)
theorem dX7_fieldTold_88 : decode cX7_fieldTold 88 = .ok (.iastore, 1) := dk_79 (dk_at dksX7_fieldTold_3 19 rfl rfl)
theorem dX7_fieldTold_89 : decode cX7_fieldTold 89 = .ok (.aload_n 0, 1) := dk_42 (dk_at dksX7_fieldTold_3 20 rfl rfl)
theorem dX7_fieldTold_90 : decode cX7_fieldTold 90 = .ok (.getfield 139, 3) := dk_180 0 139 (dk_at dksX7_fieldTold_3 21 rfl rfl)
theorem dX7_fieldTold_93 : decode cX7_fieldTold 93 = .ok (.iload 5, 2) := dk_21 5 (dk_at dksX7_fieldTold_4 0 rfl rfl)
theorem dX7_fieldTold_95 : decode cX7_fieldTold 95 = .ok (.iconst 2, 1) := dk_5 (dk_at dksX7_fieldTold_4 2 rfl rfl)
theorem dX7_fieldTold_96 : decode cX7_fieldTold 96 = .ok (.iadd, 1) := dk_96 (dk_at dksX7_fieldTold_4 3 rfl rfl)
theorem dX7_fieldTold_97 : decode cX7_fieldTold 97 = .ok (.iload 4, 2) := dk_21 4 (dk_at dksX7_fieldTold_4 4 rfl rfl)
theorem dX7_fieldTold_99 : decode cX7_fieldTold 99 = .ok (.iastore, 1) := dk_79 (dk_at dksX7_fieldTold_4 6 rfl rfl)
theorem dX7_fieldTold_100 : decode cX7_fieldTold 100 = .ok (.return_, 1) := dk_177 (dk_at dksX7_fieldTold_4 7 rfl rfl)
abbrev cX7_harmTold : ByteArray := prog_25_method_27_code
def yX7_harmTold : MethodName := ⟨RX7, "harmTold", "(I)V"⟩
def dkwX7_harmTold_5 : List UInt8 := [180, 0, 148, 3, 42, 180, 1, 138, 79, 177]
abbrev dktX7_harmTold_5 : List UInt8 := dkwX7_harmTold_5 ++ []
def dkwX7_harmTold_4 : List UInt8 := [42, 180, 1, 7, 28, 46, 79, 42, 89, 180, 1, 138, 4, 96, 181, 1, 138, 132, 2, 1, 167, 255, 220, 42]
abbrev dktX7_harmTold_4 : List UInt8 := dkwX7_harmTold_4 ++ dktX7_harmTold_5
def dkwX7_harmTold_3 : List UInt8 := [3, 42, 180, 1, 138, 79, 3, 61, 28, 42, 180, 1, 123, 162, 0, 34, 42, 180, 0, 151, 42, 180, 1, 138]
abbrev dktX7_harmTold_3 : List UInt8 := dkwX7_harmTold_3 ++ dktX7_harmTold_4
def dkwX7_harmTold_2 : List UInt8 := [181, 1, 129, 42, 3, 181, 1, 132, 42, 182, 1, 135, 42, 180, 1, 22, 153, 0, 4, 177, 42, 180, 0, 145]
abbrev dktX7_harmTold_2 : List UInt8 := dkwX7_harmTold_2 ++ dktX7_harmTold_3
def dkwX7_harmTold_1 : List UInt8 := [180, 1, 22, 153, 0, 4, 177, 42, 4, 181, 1, 80, 42, 3, 181, 1, 123, 42, 3, 181, 1, 126, 42, 3]
abbrev dktX7_harmTold_1 : List UInt8 := dkwX7_harmTold_1 ++ dktX7_harmTold_2
def dkwX7_harmTold_0 : List UInt8 := [42, 180, 1, 22, 154, 0, 19, 42, 180, 0, 145, 3, 46, 2, 159, 0, 9, 42, 8, 27, 182, 1, 52, 42]
abbrev dktX7_harmTold_0 : List UInt8 := dkwX7_harmTold_0 ++ dktX7_harmTold_1
theorem dksX7_harmTold_0 : cX7_harmTold.data.toList.drop 0 = dktX7_harmTold_0 := by decide +kernel
theorem dksX7_harmTold_1 : cX7_harmTold.data.toList.drop 24 = dktX7_harmTold_1 := dk_seg dksX7_harmTold_0 24 rfl rfl
theorem dksX7_harmTold_2 : cX7_harmTold.data.toList.drop 48 = dktX7_harmTold_2 := dk_seg dksX7_harmTold_1 24 rfl rfl
theorem dksX7_harmTold_3 : cX7_harmTold.data.toList.drop 72 = dktX7_harmTold_3 := dk_seg dksX7_harmTold_2 24 rfl rfl
theorem dksX7_harmTold_4 : cX7_harmTold.data.toList.drop 96 = dktX7_harmTold_4 := dk_seg dksX7_harmTold_3 24 rfl rfl
theorem dksX7_harmTold_5 : cX7_harmTold.data.toList.drop 120 = dktX7_harmTold_5 := dk_seg dksX7_harmTold_4 24 rfl rfl
theorem dX7_harmTold_0 : decode cX7_harmTold 0 = .ok (.aload_n 0, 1) := dk_42 (dk_at dksX7_harmTold_0 0 rfl rfl)
theorem dX7_harmTold_1 : decode cX7_harmTold 1 = .ok (.getfield 278, 3) := dk_180 1 22 (dk_at dksX7_harmTold_0 1 rfl rfl)
theorem dX7_harmTold_4 : decode cX7_harmTold 4 = .ok (.ifCond .ne 19, 3) := dk_154 0 19 (dk_at dksX7_harmTold_0 4 rfl rfl)
theorem dX7_harmTold_7 : decode cX7_harmTold 7 = .ok (.aload_n 0, 1) := dk_42 (dk_at dksX7_harmTold_0 7 rfl rfl)
theorem dX7_harmTold_8 : decode cX7_harmTold 8 = .ok (.getfield 145, 3) := dk_180 0 145 (dk_at dksX7_harmTold_0 8 rfl rfl)
theorem dX7_harmTold_11 : decode cX7_harmTold 11 = .ok (.iconst 0, 1) := dk_3 (dk_at dksX7_harmTold_0 11 rfl rfl)
theorem dX7_harmTold_12 : decode cX7_harmTold 12 = .ok (.iaload, 1) := dk_46 (dk_at dksX7_harmTold_0 12 rfl rfl)
theorem dX7_harmTold_13 : decode cX7_harmTold 13 = .ok (.iconst (-1), 1) := dk_2 (dk_at dksX7_harmTold_0 13 rfl rfl)
theorem dX7_harmTold_14 : decode cX7_harmTold 14 = .ok (.if_icmp .eq 9, 3) := dk_159 0 9 (dk_at dksX7_harmTold_0 14 rfl rfl)
theorem dX7_harmTold_17 : decode cX7_harmTold 17 = .ok (.aload_n 0, 1) := dk_42 (dk_at dksX7_harmTold_0 17 rfl rfl)
theorem dX7_harmTold_18 : decode cX7_harmTold 18 = .ok (.iconst 5, 1) := dk_8 (dk_at dksX7_harmTold_0 18 rfl rfl)
theorem dX7_harmTold_19 : decode cX7_harmTold 19 = .ok (.iload_n 1, 1) := dk_27 (dk_at dksX7_harmTold_0 19 rfl rfl)
theorem dX7_harmTold_20 : decode cX7_harmTold 20 = .ok (.invokevirtual 308, 3) := dk_182 1 52 (dk_at dksX7_harmTold_0 20 rfl rfl)
theorem dX7_harmTold_23 : decode cX7_harmTold 23 = .ok (.aload_n 0, 1) := dk_42 (dk_at dksX7_harmTold_0 23 rfl rfl)
theorem dX7_harmTold_24 : decode cX7_harmTold 24 = .ok (.getfield 278, 3) := dk_180 1 22 (dk_at dksX7_harmTold_1 0 rfl rfl)
theorem dX7_harmTold_27 : decode cX7_harmTold 27 = .ok (.ifCond .eq 4, 3) := dk_153 0 4 (dk_at dksX7_harmTold_1 3 rfl rfl)
theorem dX7_harmTold_30 : decode cX7_harmTold 30 = .ok (.return_, 1) := dk_177 (dk_at dksX7_harmTold_1 6 rfl rfl)
theorem dX7_harmTold_31 : decode cX7_harmTold 31 = .ok (.aload_n 0, 1) := dk_42 (dk_at dksX7_harmTold_1 7 rfl rfl)
theorem dX7_harmTold_32 : decode cX7_harmTold 32 = .ok (.iconst 1, 1) := dk_4 (dk_at dksX7_harmTold_1 8 rfl rfl)
theorem dX7_harmTold_33 : decode cX7_harmTold 33 = .ok (.putfield 336, 3) := dk_181 1 80 (dk_at dksX7_harmTold_1 9 rfl rfl)
theorem dX7_harmTold_36 : decode cX7_harmTold 36 = .ok (.aload_n 0, 1) := dk_42 (dk_at dksX7_harmTold_1 12 rfl rfl)
theorem dX7_harmTold_37 : decode cX7_harmTold 37 = .ok (.iconst 0, 1) := dk_3 (dk_at dksX7_harmTold_1 13 rfl rfl)
theorem dX7_harmTold_38 : decode cX7_harmTold 38 = .ok (.putfield 379, 3) := dk_181 1 123 (dk_at dksX7_harmTold_1 14 rfl rfl)
theorem dX7_harmTold_41 : decode cX7_harmTold 41 = .ok (.aload_n 0, 1) := dk_42 (dk_at dksX7_harmTold_1 17 rfl rfl)
theorem dX7_harmTold_42 : decode cX7_harmTold 42 = .ok (.iconst 0, 1) := dk_3 (dk_at dksX7_harmTold_1 18 rfl rfl)
theorem dX7_harmTold_43 : decode cX7_harmTold 43 = .ok (.putfield 382, 3) := dk_181 1 126 (dk_at dksX7_harmTold_1 19 rfl rfl)
theorem dX7_harmTold_46 : decode cX7_harmTold 46 = .ok (.aload_n 0, 1) := dk_42 (dk_at dksX7_harmTold_1 22 rfl rfl)
theorem dX7_harmTold_47 : decode cX7_harmTold 47 = .ok (.iconst 0, 1) := dk_3 (dk_at dksX7_harmTold_1 23 rfl rfl)
theorem dX7_harmTold_48 : decode cX7_harmTold 48 = .ok (.putfield 385, 3) := dk_181 1 129 (dk_at dksX7_harmTold_2 0 rfl rfl)
theorem dX7_harmTold_51 : decode cX7_harmTold 51 = .ok (.aload_n 0, 1) := dk_42 (dk_at dksX7_harmTold_2 3 rfl rfl)
theorem dX7_harmTold_52 : decode cX7_harmTold 52 = .ok (.iconst 0, 1) := dk_3 (dk_at dksX7_harmTold_2 4 rfl rfl)
theorem dX7_harmTold_53 : decode cX7_harmTold 53 = .ok (.putfield 388, 3) := dk_181 1 132 (dk_at dksX7_harmTold_2 5 rfl rfl)
theorem dX7_harmTold_56 : decode cX7_harmTold 56 = .ok (.aload_n 0, 1) := dk_42 (dk_at dksX7_harmTold_2 8 rfl rfl)
theorem dX7_harmTold_57 : decode cX7_harmTold 57 = .ok (.invokevirtual 391, 3) := dk_182 1 135 (dk_at dksX7_harmTold_2 9 rfl rfl)
theorem dX7_harmTold_60 : decode cX7_harmTold 60 = .ok (.aload_n 0, 1) := dk_42 (dk_at dksX7_harmTold_2 12 rfl rfl)
theorem dX7_harmTold_61 : decode cX7_harmTold 61 = .ok (.getfield 278, 3) := dk_180 1 22 (dk_at dksX7_harmTold_2 13 rfl rfl)
theorem dX7_harmTold_64 : decode cX7_harmTold 64 = .ok (.ifCond .eq 4, 3) := dk_153 0 4 (dk_at dksX7_harmTold_2 16 rfl rfl)
theorem dX7_harmTold_67 : decode cX7_harmTold 67 = .ok (.return_, 1) := dk_177 (dk_at dksX7_harmTold_2 19 rfl rfl)
theorem dX7_harmTold_68 : decode cX7_harmTold 68 = .ok (.aload_n 0, 1) := dk_42 (dk_at dksX7_harmTold_2 20 rfl rfl)
theorem dX7_harmTold_69 : decode cX7_harmTold 69 = .ok (.getfield 145, 3) := dk_180 0 145 (dk_at dksX7_harmTold_2 21 rfl rfl)
theorem dX7_harmTold_72 : decode cX7_harmTold 72 = .ok (.iconst 0, 1) := dk_3 (dk_at dksX7_harmTold_3 0 rfl rfl)
theorem dX7_harmTold_73 : decode cX7_harmTold 73 = .ok (.aload_n 0, 1) := dk_42 (dk_at dksX7_harmTold_3 1 rfl rfl)
theorem dX7_harmTold_74 : decode cX7_harmTold 74 = .ok (.getfield 394, 3) := dk_180 1 138 (dk_at dksX7_harmTold_3 2 rfl rfl)
theorem dX7_harmTold_77 : decode cX7_harmTold 77 = .ok (.iastore, 1) := dk_79 (dk_at dksX7_harmTold_3 5 rfl rfl)
theorem dX7_harmTold_78 : decode cX7_harmTold 78 = .ok (.iconst 0, 1) := dk_3 (dk_at dksX7_harmTold_3 6 rfl rfl)
theorem dX7_harmTold_79 : decode cX7_harmTold 79 = .ok (.istore_n 2, 1) := dk_61 (dk_at dksX7_harmTold_3 7 rfl rfl)
theorem dX7_harmTold_80 : decode cX7_harmTold 80 = .ok (.iload_n 2, 1) := dk_28 (dk_at dksX7_harmTold_3 8 rfl rfl)
theorem dX7_harmTold_81 : decode cX7_harmTold 81 = .ok (.aload_n 0, 1) := dk_42 (dk_at dksX7_harmTold_3 9 rfl rfl)
theorem dX7_harmTold_82 : decode cX7_harmTold 82 = .ok (.getfield 379, 3) := dk_180 1 123 (dk_at dksX7_harmTold_3 10 rfl rfl)
theorem dX7_harmTold_85 : decode cX7_harmTold 85 = .ok (.if_icmp .ge 34, 3) := dk_162 0 34 (dk_at dksX7_harmTold_3 13 rfl rfl)
theorem dX7_harmTold_88 : decode cX7_harmTold 88 = .ok (.aload_n 0, 1) := dk_42 (dk_at dksX7_harmTold_3 16 rfl rfl)
theorem dX7_harmTold_89 : decode cX7_harmTold 89 = .ok (.getfield 151, 3) := dk_180 0 151 (dk_at dksX7_harmTold_3 17 rfl rfl)
theorem dX7_harmTold_92 : decode cX7_harmTold 92 = .ok (.aload_n 0, 1) := dk_42 (dk_at dksX7_harmTold_3 20 rfl rfl)
theorem dX7_harmTold_93 : decode cX7_harmTold 93 = .ok (.getfield 394, 3) := dk_180 1 138 (dk_at dksX7_harmTold_3 21 rfl rfl)
theorem dX7_harmTold_96 : decode cX7_harmTold 96 = .ok (.aload_n 0, 1) := dk_42 (dk_at dksX7_harmTold_4 0 rfl rfl)
theorem dX7_harmTold_97 : decode cX7_harmTold 97 = .ok (.getfield 263, 3) := dk_180 1 7 (dk_at dksX7_harmTold_4 1 rfl rfl)
theorem dX7_harmTold_100 : decode cX7_harmTold 100 = .ok (.iload_n 2, 1) := dk_28 (dk_at dksX7_harmTold_4 4 rfl rfl)
theorem dX7_harmTold_101 : decode cX7_harmTold 101 = .ok (.iaload, 1) := dk_46 (dk_at dksX7_harmTold_4 5 rfl rfl)
theorem dX7_harmTold_102 : decode cX7_harmTold 102 = .ok (.iastore, 1) := dk_79 (dk_at dksX7_harmTold_4 6 rfl rfl)
theorem dX7_harmTold_103 : decode cX7_harmTold 103 = .ok (.aload_n 0, 1) := dk_42 (dk_at dksX7_harmTold_4 7 rfl rfl)
theorem dX7_harmTold_104 : decode cX7_harmTold 104 = .ok (.dup, 1) := dk_89 (dk_at dksX7_harmTold_4 8 rfl rfl)
theorem dX7_harmTold_105 : decode cX7_harmTold 105 = .ok (.getfield 394, 3) := dk_180 1 138 (dk_at dksX7_harmTold_4 9 rfl rfl)
theorem dX7_harmTold_108 : decode cX7_harmTold 108 = .ok (.iconst 1, 1) := dk_4 (dk_at dksX7_harmTold_4 12 rfl rfl)
theorem dX7_harmTold_109 : decode cX7_harmTold 109 = .ok (.iadd, 1) := dk_96 (dk_at dksX7_harmTold_4 13 rfl rfl)
theorem dX7_harmTold_110 : decode cX7_harmTold 110 = .ok (.putfield 394, 3) := dk_181 1 138 (dk_at dksX7_harmTold_4 14 rfl rfl)
theorem dX7_harmTold_113 : decode cX7_harmTold 113 = .ok (.iinc 2 1, 3) := dk_132 2 1 (dk_at dksX7_harmTold_4 17 rfl rfl)
theorem dX7_harmTold_116 : decode cX7_harmTold 116 = .ok (.goto (-36), 3) := dk_167 255 220 (dk_at dksX7_harmTold_4 20 rfl rfl)
theorem dX7_harmTold_119 : decode cX7_harmTold 119 = .ok (.aload_n 0, 1) := dk_42 (dk_at dksX7_harmTold_4 23 rfl rfl)
theorem dX7_harmTold_120 : decode cX7_harmTold 120 = .ok (.getfield 148, 3) := dk_180 0 148 (dk_at dksX7_harmTold_5 0 rfl rfl)
theorem dX7_harmTold_123 : decode cX7_harmTold 123 = .ok (.iconst 0, 1) := dk_3 (dk_at dksX7_harmTold_5 3 rfl rfl)
theorem dX7_harmTold_124 : decode cX7_harmTold 124 = .ok (.aload_n 0, 1) := dk_42 (dk_at dksX7_harmTold_5 4 rfl rfl)
theorem dX7_harmTold_125 : decode cX7_harmTold 125 = .ok (.getfield 394, 3) := dk_180 1 138 (dk_at dksX7_harmTold_5 5 rfl rfl)
theorem dX7_harmTold_128 : decode cX7_harmTold 128 = .ok (.iastore, 1) := dk_79 (dk_at dksX7_harmTold_5 8 rfl rfl)
theorem dX7_harmTold_129 : decode cX7_harmTold 129 = .ok (.return_, 1) := dk_177 (dk_at dksX7_harmTold_5 9 rfl rfl)
abbrev cX7_qSums : ByteArray := prog_25_method_129_code
def yX7_qSums : MethodName := ⟨RX7, "qSums", "()V"⟩
def dkwX7_qSums_3 : List UInt8 := [164, 0, 10, 42, 182, 2, 173, 167, 255, 234, 42, 27, 181, 1, 132, 177]
abbrev dktX7_qSums_3 : List UInt8 := dkwX7_qSums_3 ++ []
def dkwX7_qSums_2 : List UInt8 := [167, 0, 4, 3, 61, 167, 255, 221, 42, 180, 1, 22, 154, 0, 21, 42, 180, 1, 126, 42, 180, 1, 132]
abbrev dktX7_qSums_2 : List UInt8 := dkwX7_qSums_2 ++ dktX7_qSums_3
def dkwX7_qSums_1 : List UInt8 := [154, 0, 30, 42, 182, 2, 203, 42, 180, 1, 22, 154, 0, 14, 42, 182, 2, 206, 153, 0, 7, 4]
abbrev dktX7_qSums_1 : List UInt8 := dkwX7_qSums_1 ++ dktX7_qSums_2
def dkwX7_qSums_0 : List UInt8 := [42, 180, 1, 132, 60, 42, 42, 180, 1, 126, 181, 1, 132, 4, 61, 28, 153, 0, 37, 42, 180, 1, 22]
abbrev dktX7_qSums_0 : List UInt8 := dkwX7_qSums_0 ++ dktX7_qSums_1
theorem dksX7_qSums_0 : cX7_qSums.data.toList.drop 0 = dktX7_qSums_0 := by decide +kernel
theorem dksX7_qSums_1 : cX7_qSums.data.toList.drop 23 = dktX7_qSums_1 := dk_seg dksX7_qSums_0 23 rfl rfl
theorem dksX7_qSums_2 : cX7_qSums.data.toList.drop 45 = dktX7_qSums_2 := dk_seg dksX7_qSums_1 22 rfl rfl
theorem dksX7_qSums_3 : cX7_qSums.data.toList.drop 68 = dktX7_qSums_3 := dk_seg dksX7_qSums_2 23 rfl rfl
theorem dX7_qSums_0 : decode cX7_qSums 0 = .ok (.aload_n 0, 1) := dk_42 (dk_at dksX7_qSums_0 0 rfl rfl)
theorem dX7_qSums_1 : decode cX7_qSums 1 = .ok (.getfield 388, 3) := dk_180 1 132 (dk_at dksX7_qSums_0 1 rfl rfl)
theorem dX7_qSums_4 : decode cX7_qSums 4 = .ok (.istore_n 1, 1) := dk_60 (dk_at dksX7_qSums_0 4 rfl rfl)
theorem dX7_qSums_5 : decode cX7_qSums 5 = .ok (.aload_n 0, 1) := dk_42 (dk_at dksX7_qSums_0 5 rfl rfl)
theorem dX7_qSums_6 : decode cX7_qSums 6 = .ok (.aload_n 0, 1) := dk_42 (dk_at dksX7_qSums_0 6 rfl rfl)
theorem dX7_qSums_7 : decode cX7_qSums 7 = .ok (.getfield 382, 3) := dk_180 1 126 (dk_at dksX7_qSums_0 7 rfl rfl)
theorem dX7_qSums_10 : decode cX7_qSums 10 = .ok (.putfield 388, 3) := dk_181 1 132 (dk_at dksX7_qSums_0 10 rfl rfl)
theorem dX7_qSums_13 : decode cX7_qSums 13 = .ok (.iconst 1, 1) := dk_4 (dk_at dksX7_qSums_0 13 rfl rfl)
theorem dX7_qSums_14 : decode cX7_qSums 14 = .ok (.istore_n 2, 1) := dk_61 (dk_at dksX7_qSums_0 14 rfl rfl)
theorem dX7_qSums_15 : decode cX7_qSums 15 = .ok (.iload_n 2, 1) := dk_28 (dk_at dksX7_qSums_0 15 rfl rfl)
theorem dX7_qSums_16 : decode cX7_qSums 16 = .ok (.ifCond .eq 37, 3) := dk_153 0 37 (dk_at dksX7_qSums_0 16 rfl rfl)
theorem dX7_qSums_19 : decode cX7_qSums 19 = .ok (.aload_n 0, 1) := dk_42 (dk_at dksX7_qSums_0 19 rfl rfl)
theorem dX7_qSums_20 : decode cX7_qSums 20 = .ok (.getfield 278, 3) := dk_180 1 22 (dk_at dksX7_qSums_0 20 rfl rfl)
theorem dX7_qSums_23 : decode cX7_qSums 23 = .ok (.ifCond .ne 30, 3) := dk_154 0 30 (dk_at dksX7_qSums_1 0 rfl rfl)
theorem dX7_qSums_26 : decode cX7_qSums 26 = .ok (.aload_n 0, 1) := dk_42 (dk_at dksX7_qSums_1 3 rfl rfl)
theorem dX7_qSums_27 : decode cX7_qSums 27 = .ok (.invokevirtual 715, 3) := dk_182 2 203 (dk_at dksX7_qSums_1 4 rfl rfl)
theorem dX7_qSums_30 : decode cX7_qSums 30 = .ok (.aload_n 0, 1) := dk_42 (dk_at dksX7_qSums_1 7 rfl rfl)
theorem dX7_qSums_31 : decode cX7_qSums 31 = .ok (.getfield 278, 3) := dk_180 1 22 (dk_at dksX7_qSums_1 8 rfl rfl)
theorem dX7_qSums_34 : decode cX7_qSums 34 = .ok (.ifCond .ne 14, 3) := dk_154 0 14 (dk_at dksX7_qSums_1 11 rfl rfl)
theorem dX7_qSums_37 : decode cX7_qSums 37 = .ok (.aload_n 0, 1) := dk_42 (dk_at dksX7_qSums_1 14 rfl rfl)
theorem dX7_qSums_38 : decode cX7_qSums 38 = .ok (.invokevirtual 718, 3) := dk_182 2 206 (dk_at dksX7_qSums_1 15 rfl rfl)
theorem dX7_qSums_41 : decode cX7_qSums 41 = .ok (.ifCond .eq 7, 3) := dk_153 0 7 (dk_at dksX7_qSums_1 18 rfl rfl)
theorem dX7_qSums_44 : decode cX7_qSums 44 = .ok (.iconst 1, 1) := dk_4 (dk_at dksX7_qSums_1 21 rfl rfl)
theorem dX7_qSums_45 : decode cX7_qSums 45 = .ok (.goto 4, 3) := dk_167 0 4 (dk_at dksX7_qSums_2 0 rfl rfl)
theorem dX7_qSums_48 : decode cX7_qSums 48 = .ok (.iconst 0, 1) := dk_3 (dk_at dksX7_qSums_2 3 rfl rfl)
theorem dX7_qSums_49 : decode cX7_qSums 49 = .ok (.istore_n 2, 1) := dk_61 (dk_at dksX7_qSums_2 4 rfl rfl)
theorem dX7_qSums_50 : decode cX7_qSums 50 = .ok (.goto (-35), 3) := dk_167 255 221 (dk_at dksX7_qSums_2 5 rfl rfl)
theorem dX7_qSums_53 : decode cX7_qSums 53 = .ok (.aload_n 0, 1) := dk_42 (dk_at dksX7_qSums_2 8 rfl rfl)
theorem dX7_qSums_54 : decode cX7_qSums 54 = .ok (.getfield 278, 3) := dk_180 1 22 (dk_at dksX7_qSums_2 9 rfl rfl)
theorem dX7_qSums_57 : decode cX7_qSums 57 = .ok (.ifCond .ne 21, 3) := dk_154 0 21 (dk_at dksX7_qSums_2 12 rfl rfl)
theorem dX7_qSums_60 : decode cX7_qSums 60 = .ok (.aload_n 0, 1) := dk_42 (dk_at dksX7_qSums_2 15 rfl rfl)
theorem dX7_qSums_61 : decode cX7_qSums 61 = .ok (.getfield 382, 3) := dk_180 1 126 (dk_at dksX7_qSums_2 16 rfl rfl)
theorem dX7_qSums_64 : decode cX7_qSums 64 = .ok (.aload_n 0, 1) := dk_42 (dk_at dksX7_qSums_2 19 rfl rfl)
theorem dX7_qSums_65 : decode cX7_qSums 65 = .ok (.getfield 388, 3) := dk_180 1 132 (dk_at dksX7_qSums_2 20 rfl rfl)
theorem dX7_qSums_68 : decode cX7_qSums 68 = .ok (.if_icmp .le 10, 3) := dk_164 0 10 (dk_at dksX7_qSums_3 0 rfl rfl)
theorem dX7_qSums_71 : decode cX7_qSums 71 = .ok (.aload_n 0, 1) := dk_42 (dk_at dksX7_qSums_3 3 rfl rfl)
theorem dX7_qSums_72 : decode cX7_qSums 72 = .ok (.invokevirtual 685, 3) := dk_182 2 173 (dk_at dksX7_qSums_3 4 rfl rfl)
theorem dX7_qSums_75 : decode cX7_qSums 75 = .ok (.goto (-22), 3) := dk_167 255 234 (dk_at dksX7_qSums_3 7 rfl rfl)
theorem dX7_qSums_78 : decode cX7_qSums 78 = .ok (.aload_n 0, 1) := dk_42 (dk_at dksX7_qSums_3 10 rfl rfl)
theorem dX7_qSums_79 : decode cX7_qSums 79 = .ok (.iload_n 1, 1) := dk_27 (dk_at dksX7_qSums_3 11 rfl rfl)
theorem dX7_qSums_80 : decode cX7_qSums 80 = .ok (.putfield 388, 3) := dk_181 1 132 (dk_at dksX7_qSums_3 12 rfl rfl)
theorem dX7_qSums_83 : decode cX7_qSums 83 = .ok (.return_, 1) := dk_177 (dk_at dksX7_qSums_3 15 rfl rfl)
abbrev cX7_qPartTold : ByteArray := prog_25_method_127_code
def yX7_qPartTold : MethodName := ⟨RX7, "qPartTold", "()V"⟩
def dkwX7_qPartTold_10 : List UInt8 := [182, 1, 96, 96, 182, 2, 167, 42, 182, 2, 191, 177]
abbrev dktX7_qPartTold_10 : List UInt8 := dkwX7_qPartTold_10 ++ []
def dkwX7_qPartTold_9 : List UInt8 := [182, 2, 188, 42, 28, 2, 159, 0, 10, 16, 40, 28, 96, 167, 0, 15, 17, 3, 232, 42, 3, 17, 39, 15]
abbrev dktX7_qPartTold_9 : List UInt8 := dkwX7_qPartTold_9 ++ dktX7_qPartTold_10
def dkwX7_qPartTold_8 : List UInt8 := [180, 1, 22, 153, 0, 4, 177, 42, 3, 16, 11, 182, 2, 182, 61, 28, 2, 159, 0, 8, 42, 28]
abbrev dktX7_qPartTold_8 : List UInt8 := dkwX7_qPartTold_8 ++ dktX7_qPartTold_9
def dkwX7_qPartTold_7 : List UInt8 := [100, 42, 180, 1, 28, 182, 2, 185, 42, 29, 182, 2, 188, 167, 0, 5, 3, 60, 167, 255, 75, 42]
abbrev dktX7_qPartTold_7 : List UInt8 := dkwX7_qPartTold_7 ++ dktX7_qPartTold_8
def dkwX7_qPartTold_6 : List UInt8 := [182, 2, 185, 42, 16, 40, 182, 1, 100, 167, 0, 33, 29, 2, 159, 0, 26, 42, 16, 60, 29, 96, 16, 11]
abbrev dktX7_qPartTold_6 : List UInt8 := dkwX7_qPartTold_6 ++ dktX7_qPartTold_7
def dkwX7_qPartTold_5 : List UInt8 := [2, 54, 5, 21, 5, 2, 159, 0, 21, 42, 21, 4, 153, 0, 8, 16, 21, 167, 0, 5, 16, 22, 21, 5]
abbrev dktX7_qPartTold_5 : List UInt8 := dkwX7_qPartTold_5 ++ dktX7_qPartTold_6
def dkwX7_qPartTold_4 : List UInt8 := [42, 42, 180, 0, 227, 182, 1, 92, 42, 182, 1, 34, 16, 40, 160, 0, 10, 42, 180, 1, 28, 167, 0, 4]
abbrev dktX7_qPartTold_4 : List UInt8 := dkwX7_qPartTold_4 ++ dktX7_qPartTold_5
def dkwX7_qPartTold_3 : List UInt8 := [180, 0, 227, 182, 1, 45, 153, 0, 78, 42, 42, 180, 0, 224, 182, 1, 49, 54, 4, 21, 4, 154, 0, 11]
abbrev dktX7_qPartTold_3 : List UInt8 := dkwX7_qPartTold_3 ++ dktX7_qPartTold_4
def dkwX7_qPartTold_2 : List UInt8 := [180, 1, 28, 4, 96, 181, 1, 28, 167, 0, 130, 42, 42, 180, 0, 224, 182, 1, 45, 154, 0, 14, 42, 42]
abbrev dktX7_qPartTold_2 : List UInt8 := dkwX7_qPartTold_2 ++ dktX7_qPartTold_3
def dkwX7_qPartTold_1 : List UInt8 := [182, 2, 182, 62, 28, 16, 40, 160, 0, 26, 42, 16, 20, 42, 180, 1, 28, 182, 2, 185, 42, 89]
abbrev dktX7_qPartTold_1 : List UInt8 := dkwX7_qPartTold_1 ++ dktX7_qPartTold_2
def dkwX7_qPartTold_0 : List UInt8 := [4, 60, 27, 153, 0, 183, 42, 180, 1, 22, 154, 0, 176, 42, 182, 1, 34, 61, 42, 16, 11, 16, 12]
abbrev dktX7_qPartTold_0 : List UInt8 := dkwX7_qPartTold_0 ++ dktX7_qPartTold_1
theorem dksX7_qPartTold_0 : cX7_qPartTold.data.toList.drop 0 = dktX7_qPartTold_0 := by decide +kernel
theorem dksX7_qPartTold_1 : cX7_qPartTold.data.toList.drop 23 = dktX7_qPartTold_1 := dk_seg dksX7_qPartTold_0 23 rfl rfl
theorem dksX7_qPartTold_2 : cX7_qPartTold.data.toList.drop 45 = dktX7_qPartTold_2 := dk_seg dksX7_qPartTold_1 22 rfl rfl
theorem dksX7_qPartTold_3 : cX7_qPartTold.data.toList.drop 69 = dktX7_qPartTold_3 := dk_seg dksX7_qPartTold_2 24 rfl rfl
theorem dksX7_qPartTold_4 : cX7_qPartTold.data.toList.drop 93 = dktX7_qPartTold_4 := dk_seg dksX7_qPartTold_3 24 rfl rfl
theorem dksX7_qPartTold_5 : cX7_qPartTold.data.toList.drop 117 = dktX7_qPartTold_5 := dk_seg dksX7_qPartTold_4 24 rfl rfl
theorem dksX7_qPartTold_6 : cX7_qPartTold.data.toList.drop 141 = dktX7_qPartTold_6 := dk_seg dksX7_qPartTold_5 24 rfl rfl
theorem dksX7_qPartTold_7 : cX7_qPartTold.data.toList.drop 165 = dktX7_qPartTold_7 := dk_seg dksX7_qPartTold_6 24 rfl rfl
theorem dksX7_qPartTold_8 : cX7_qPartTold.data.toList.drop 187 = dktX7_qPartTold_8 := dk_seg dksX7_qPartTold_7 22 rfl rfl
theorem dksX7_qPartTold_9 : cX7_qPartTold.data.toList.drop 209 = dktX7_qPartTold_9 := dk_seg dksX7_qPartTold_8 22 rfl rfl
theorem dksX7_qPartTold_10 : cX7_qPartTold.data.toList.drop 233 = dktX7_qPartTold_10 := dk_seg dksX7_qPartTold_9 24 rfl rfl
theorem dX7_qPartTold_0 : decode cX7_qPartTold 0 = .ok (.iconst 1, 1) := dk_4 (dk_at dksX7_qPartTold_0 0 rfl rfl)
theorem dX7_qPartTold_1 : decode cX7_qPartTold 1 = .ok (.istore_n 1, 1) := dk_60 (dk_at dksX7_qPartTold_0 1 rfl rfl)
theorem dX7_qPartTold_2 : decode cX7_qPartTold 2 = .ok (.iload_n 1, 1) := dk_27 (dk_at dksX7_qPartTold_0 2 rfl rfl)
theorem dX7_qPartTold_3 : decode cX7_qPartTold 3 = .ok (.ifCond .eq 183, 3) := dk_153 0 183 (dk_at dksX7_qPartTold_0 3 rfl rfl)
theorem dX7_qPartTold_6 : decode cX7_qPartTold 6 = .ok (.aload_n 0, 1) := dk_42 (dk_at dksX7_qPartTold_0 6 rfl rfl)
theorem dX7_qPartTold_7 : decode cX7_qPartTold 7 = .ok (.getfield 278, 3) := dk_180 1 22 (dk_at dksX7_qPartTold_0 7 rfl rfl)
theorem dX7_qPartTold_10 : decode cX7_qPartTold 10 = .ok (.ifCond .ne 176, 3) := dk_154 0 176 (dk_at dksX7_qPartTold_0 10 rfl rfl)
theorem dX7_qPartTold_13 : decode cX7_qPartTold 13 = .ok (.aload_n 0, 1) := dk_42 (dk_at dksX7_qPartTold_0 13 rfl rfl)
theorem dX7_qPartTold_14 : decode cX7_qPartTold 14 = .ok (.invokevirtual 290, 3) := dk_182 1 34 (dk_at dksX7_qPartTold_0 14 rfl rfl)
theorem dX7_qPartTold_17 : decode cX7_qPartTold 17 = .ok (.istore_n 2, 1) := dk_61 (dk_at dksX7_qPartTold_0 17 rfl rfl)
theorem dX7_qPartTold_18 : decode cX7_qPartTold 18 = .ok (.aload_n 0, 1) := dk_42 (dk_at dksX7_qPartTold_0 18 rfl rfl)
theorem dX7_qPartTold_19 : decode cX7_qPartTold 19 = .ok (.bipush 11, 2) := dk_16 11 (dk_at dksX7_qPartTold_0 19 rfl rfl)
theorem dX7_qPartTold_21 : decode cX7_qPartTold 21 = .ok (.bipush 12, 2) := dk_16 12 (dk_at dksX7_qPartTold_0 21 rfl rfl)
theorem dX7_qPartTold_23 : decode cX7_qPartTold 23 = .ok (.invokevirtual 694, 3) := dk_182 2 182 (dk_at dksX7_qPartTold_1 0 rfl rfl)
theorem dX7_qPartTold_26 : decode cX7_qPartTold 26 = .ok (.istore_n 3, 1) := dk_62 (dk_at dksX7_qPartTold_1 3 rfl rfl)
theorem dX7_qPartTold_27 : decode cX7_qPartTold 27 = .ok (.iload_n 2, 1) := dk_28 (dk_at dksX7_qPartTold_1 4 rfl rfl)
theorem dX7_qPartTold_28 : decode cX7_qPartTold 28 = .ok (.bipush 40, 2) := dk_16 40 (dk_at dksX7_qPartTold_1 5 rfl rfl)
theorem dX7_qPartTold_30 : decode cX7_qPartTold 30 = .ok (.if_icmp .ne 26, 3) := dk_160 0 26 (dk_at dksX7_qPartTold_1 7 rfl rfl)
theorem dX7_qPartTold_33 : decode cX7_qPartTold 33 = .ok (.aload_n 0, 1) := dk_42 (dk_at dksX7_qPartTold_1 10 rfl rfl)
theorem dX7_qPartTold_34 : decode cX7_qPartTold 34 = .ok (.bipush 20, 2) := dk_16 20 (dk_at dksX7_qPartTold_1 11 rfl rfl)
theorem dX7_qPartTold_36 : decode cX7_qPartTold 36 = .ok (.aload_n 0, 1) := dk_42 (dk_at dksX7_qPartTold_1 13 rfl rfl)
theorem dX7_qPartTold_37 : decode cX7_qPartTold 37 = .ok (.getfield 284, 3) := dk_180 1 28 (dk_at dksX7_qPartTold_1 14 rfl rfl)
theorem dX7_qPartTold_40 : decode cX7_qPartTold 40 = .ok (.invokevirtual 697, 3) := dk_182 2 185 (dk_at dksX7_qPartTold_1 17 rfl rfl)
theorem dX7_qPartTold_43 : decode cX7_qPartTold 43 = .ok (.aload_n 0, 1) := dk_42 (dk_at dksX7_qPartTold_1 20 rfl rfl)
theorem dX7_qPartTold_44 : decode cX7_qPartTold 44 = .ok (.dup, 1) := dk_89 (dk_at dksX7_qPartTold_1 21 rfl rfl)
theorem dX7_qPartTold_45 : decode cX7_qPartTold 45 = .ok (.getfield 284, 3) := dk_180 1 28 (dk_at dksX7_qPartTold_2 0 rfl rfl)
theorem dX7_qPartTold_48 : decode cX7_qPartTold 48 = .ok (.iconst 1, 1) := dk_4 (dk_at dksX7_qPartTold_2 3 rfl rfl)
theorem dX7_qPartTold_49 : decode cX7_qPartTold 49 = .ok (.iadd, 1) := dk_96 (dk_at dksX7_qPartTold_2 4 rfl rfl)
theorem dX7_qPartTold_50 : decode cX7_qPartTold 50 = .ok (.putfield 284, 3) := dk_181 1 28 (dk_at dksX7_qPartTold_2 5 rfl rfl)
theorem dX7_qPartTold_53 : decode cX7_qPartTold 53 = .ok (.goto 130, 3) := dk_167 0 130 (dk_at dksX7_qPartTold_2 8 rfl rfl)
theorem dX7_qPartTold_56 : decode cX7_qPartTold 56 = .ok (.aload_n 0, 1) := dk_42 (dk_at dksX7_qPartTold_2 11 rfl rfl)
theorem dX7_qPartTold_57 : decode cX7_qPartTold 57 = .ok (.aload_n 0, 1) := dk_42 (dk_at dksX7_qPartTold_2 12 rfl rfl)
theorem dX7_qPartTold_58 : decode cX7_qPartTold 58 = .ok (.getfield 224, 3) := dk_180 0 224 (dk_at dksX7_qPartTold_2 13 rfl rfl)
theorem dX7_qPartTold_61 : decode cX7_qPartTold 61 = .ok (.invokevirtual 301, 3) := dk_182 1 45 (dk_at dksX7_qPartTold_2 16 rfl rfl)
theorem dX7_qPartTold_64 : decode cX7_qPartTold 64 = .ok (.ifCond .ne 14, 3) := dk_154 0 14 (dk_at dksX7_qPartTold_2 19 rfl rfl)
theorem dX7_qPartTold_67 : decode cX7_qPartTold 67 = .ok (.aload_n 0, 1) := dk_42 (dk_at dksX7_qPartTold_2 22 rfl rfl)
theorem dX7_qPartTold_68 : decode cX7_qPartTold 68 = .ok (.aload_n 0, 1) := dk_42 (dk_at dksX7_qPartTold_2 23 rfl rfl)
theorem dX7_qPartTold_69 : decode cX7_qPartTold 69 = .ok (.getfield 227, 3) := dk_180 0 227 (dk_at dksX7_qPartTold_3 0 rfl rfl)
theorem dX7_qPartTold_72 : decode cX7_qPartTold 72 = .ok (.invokevirtual 301, 3) := dk_182 1 45 (dk_at dksX7_qPartTold_3 3 rfl rfl)
theorem dX7_qPartTold_75 : decode cX7_qPartTold 75 = .ok (.ifCond .eq 78, 3) := dk_153 0 78 (dk_at dksX7_qPartTold_3 6 rfl rfl)
theorem dX7_qPartTold_78 : decode cX7_qPartTold 78 = .ok (.aload_n 0, 1) := dk_42 (dk_at dksX7_qPartTold_3 9 rfl rfl)
theorem dX7_qPartTold_79 : decode cX7_qPartTold 79 = .ok (.aload_n 0, 1) := dk_42 (dk_at dksX7_qPartTold_3 10 rfl rfl)
theorem dX7_qPartTold_80 : decode cX7_qPartTold 80 = .ok (.getfield 224, 3) := dk_180 0 224 (dk_at dksX7_qPartTold_3 11 rfl rfl)
theorem dX7_qPartTold_83 : decode cX7_qPartTold 83 = .ok (.invokevirtual 305, 3) := dk_182 1 49 (dk_at dksX7_qPartTold_3 14 rfl rfl)
theorem dX7_qPartTold_86 : decode cX7_qPartTold 86 = .ok (.istore 4, 2) := dk_54 4 (dk_at dksX7_qPartTold_3 17 rfl rfl)
theorem dX7_qPartTold_88 : decode cX7_qPartTold 88 = .ok (.iload 4, 2) := dk_21 4 (dk_at dksX7_qPartTold_3 19 rfl rfl)
theorem dX7_qPartTold_90 : decode cX7_qPartTold 90 = .ok (.ifCond .ne 11, 3) := dk_154 0 11 (dk_at dksX7_qPartTold_3 21 rfl rfl)
theorem dX7_qPartTold_93 : decode cX7_qPartTold 93 = .ok (.aload_n 0, 1) := dk_42 (dk_at dksX7_qPartTold_4 0 rfl rfl)
theorem dX7_qPartTold_94 : decode cX7_qPartTold 94 = .ok (.aload_n 0, 1) := dk_42 (dk_at dksX7_qPartTold_4 1 rfl rfl)
theorem dX7_qPartTold_95 : decode cX7_qPartTold 95 = .ok (.getfield 227, 3) := dk_180 0 227 (dk_at dksX7_qPartTold_4 2 rfl rfl)
theorem dX7_qPartTold_98 : decode cX7_qPartTold 98 = .ok (.invokevirtual 348, 3) := dk_182 1 92 (dk_at dksX7_qPartTold_4 5 rfl rfl)
theorem dX7_qPartTold_101 : decode cX7_qPartTold 101 = .ok (.aload_n 0, 1) := dk_42 (dk_at dksX7_qPartTold_4 8 rfl rfl)
theorem dX7_qPartTold_102 : decode cX7_qPartTold 102 = .ok (.invokevirtual 290, 3) := dk_182 1 34 (dk_at dksX7_qPartTold_4 9 rfl rfl)
theorem dX7_qPartTold_105 : decode cX7_qPartTold 105 = .ok (.bipush 40, 2) := dk_16 40 (dk_at dksX7_qPartTold_4 12 rfl rfl)
theorem dX7_qPartTold_107 : decode cX7_qPartTold 107 = .ok (.if_icmp .ne 10, 3) := dk_160 0 10 (dk_at dksX7_qPartTold_4 14 rfl rfl)
theorem dX7_qPartTold_110 : decode cX7_qPartTold 110 = .ok (.aload_n 0, 1) := dk_42 (dk_at dksX7_qPartTold_4 17 rfl rfl)
theorem dX7_qPartTold_111 : decode cX7_qPartTold 111 = .ok (.getfield 284, 3) := dk_180 1 28 (dk_at dksX7_qPartTold_4 18 rfl rfl)
theorem dX7_qPartTold_114 : decode cX7_qPartTold 114 = .ok (.goto 4, 3) := dk_167 0 4 (dk_at dksX7_qPartTold_4 21 rfl rfl)
theorem dX7_qPartTold_117 : decode cX7_qPartTold 117 = .ok (.iconst (-1), 1) := dk_2 (dk_at dksX7_qPartTold_5 0 rfl rfl)
theorem dX7_qPartTold_118 : decode cX7_qPartTold 118 = .ok (.istore 5, 2) := dk_54 5 (dk_at dksX7_qPartTold_5 1 rfl rfl)
theorem dX7_qPartTold_120 : decode cX7_qPartTold 120 = .ok (.iload 5, 2) := dk_21 5 (dk_at dksX7_qPartTold_5 3 rfl rfl)
theorem dX7_qPartTold_122 : decode cX7_qPartTold 122 = .ok (.iconst (-1), 1) := dk_2 (dk_at dksX7_qPartTold_5 5 rfl rfl)
theorem dX7_qPartTold_123 : decode cX7_qPartTold 123 = .ok (.if_icmp .eq 21, 3) := dk_159 0 21 (dk_at dksX7_qPartTold_5 6 rfl rfl)
theorem dX7_qPartTold_126 : decode cX7_qPartTold 126 = .ok (.aload_n 0, 1) := dk_42 (dk_at dksX7_qPartTold_5 9 rfl rfl)
theorem dX7_qPartTold_127 : decode cX7_qPartTold 127 = .ok (.iload 4, 2) := dk_21 4 (dk_at dksX7_qPartTold_5 10 rfl rfl)
theorem dX7_qPartTold_129 : decode cX7_qPartTold 129 = .ok (.ifCond .eq 8, 3) := dk_153 0 8 (dk_at dksX7_qPartTold_5 12 rfl rfl)
theorem dX7_qPartTold_132 : decode cX7_qPartTold 132 = .ok (.bipush 21, 2) := dk_16 21 (dk_at dksX7_qPartTold_5 15 rfl rfl)
theorem dX7_qPartTold_134 : decode cX7_qPartTold 134 = .ok (.goto 5, 3) := dk_167 0 5 (dk_at dksX7_qPartTold_5 17 rfl rfl)
theorem dX7_qPartTold_137 : decode cX7_qPartTold 137 = .ok (.bipush 22, 2) := dk_16 22 (dk_at dksX7_qPartTold_5 20 rfl rfl)
theorem dX7_qPartTold_139 : decode cX7_qPartTold 139 = .ok (.iload 5, 2) := dk_21 5 (dk_at dksX7_qPartTold_5 22 rfl rfl)
theorem dX7_qPartTold_141 : decode cX7_qPartTold 141 = .ok (.invokevirtual 697, 3) := dk_182 2 185 (dk_at dksX7_qPartTold_6 0 rfl rfl)
theorem dX7_qPartTold_144 : decode cX7_qPartTold 144 = .ok (.aload_n 0, 1) := dk_42 (dk_at dksX7_qPartTold_6 3 rfl rfl)
theorem dX7_qPartTold_145 : decode cX7_qPartTold 145 = .ok (.bipush 40, 2) := dk_16 40 (dk_at dksX7_qPartTold_6 4 rfl rfl)
theorem dX7_qPartTold_147 : decode cX7_qPartTold 147 = .ok (.invokevirtual 356, 3) := dk_182 1 100 (dk_at dksX7_qPartTold_6 6 rfl rfl)
theorem dX7_qPartTold_150 : decode cX7_qPartTold 150 = .ok (.goto 33, 3) := dk_167 0 33 (dk_at dksX7_qPartTold_6 9 rfl rfl)
theorem dX7_qPartTold_153 : decode cX7_qPartTold 153 = .ok (.iload_n 3, 1) := dk_29 (dk_at dksX7_qPartTold_6 12 rfl rfl)
theorem dX7_qPartTold_154 : decode cX7_qPartTold 154 = .ok (.iconst (-1), 1) := dk_2 (dk_at dksX7_qPartTold_6 13 rfl rfl)
theorem dX7_qPartTold_155 : decode cX7_qPartTold 155 = .ok (.if_icmp .eq 26, 3) := dk_159 0 26 (dk_at dksX7_qPartTold_6 14 rfl rfl)
theorem dX7_qPartTold_158 : decode cX7_qPartTold 158 = .ok (.aload_n 0, 1) := dk_42 (dk_at dksX7_qPartTold_6 17 rfl rfl)
theorem dX7_qPartTold_159 : decode cX7_qPartTold 159 = .ok (.bipush 60, 2) := dk_16 60 (dk_at dksX7_qPartTold_6 18 rfl rfl)
theorem dX7_qPartTold_161 : decode cX7_qPartTold 161 = .ok (.iload_n 3, 1) := dk_29 (dk_at dksX7_qPartTold_6 20 rfl rfl)
theorem dX7_qPartTold_162 : decode cX7_qPartTold 162 = .ok (.iadd, 1) := dk_96 (dk_at dksX7_qPartTold_6 21 rfl rfl)
theorem dX7_qPartTold_163 : decode cX7_qPartTold 163 = .ok (.bipush 11, 2) := dk_16 11 (dk_at dksX7_qPartTold_6 22 rfl rfl)
theorem dX7_qPartTold_165 : decode cX7_qPartTold 165 = .ok (.isub, 1) := dk_100 (dk_at dksX7_qPartTold_7 0 rfl rfl)
theorem dX7_qPartTold_166 : decode cX7_qPartTold 166 = .ok (.aload_n 0, 1) := dk_42 (dk_at dksX7_qPartTold_7 1 rfl rfl)
theorem dX7_qPartTold_167 : decode cX7_qPartTold 167 = .ok (.getfield 284, 3) := dk_180 1 28 (dk_at dksX7_qPartTold_7 2 rfl rfl)
theorem dX7_qPartTold_170 : decode cX7_qPartTold 170 = .ok (.invokevirtual 697, 3) := dk_182 2 185 (dk_at dksX7_qPartTold_7 5 rfl rfl)
theorem dX7_qPartTold_173 : decode cX7_qPartTold 173 = .ok (.aload_n 0, 1) := dk_42 (dk_at dksX7_qPartTold_7 8 rfl rfl)
theorem dX7_qPartTold_174 : decode cX7_qPartTold 174 = .ok (.iload_n 3, 1) := dk_29 (dk_at dksX7_qPartTold_7 9 rfl rfl)
theorem dX7_qPartTold_175 : decode cX7_qPartTold 175 = .ok (.invokevirtual 700, 3) := dk_182 2 188 (dk_at dksX7_qPartTold_7 10 rfl rfl)
theorem dX7_qPartTold_178 : decode cX7_qPartTold 178 = .ok (.goto 5, 3) := dk_167 0 5 (dk_at dksX7_qPartTold_7 13 rfl rfl)
theorem dX7_qPartTold_181 : decode cX7_qPartTold 181 = .ok (.iconst 0, 1) := dk_3 (dk_at dksX7_qPartTold_7 16 rfl rfl)
theorem dX7_qPartTold_182 : decode cX7_qPartTold 182 = .ok (.istore_n 1, 1) := dk_60 (dk_at dksX7_qPartTold_7 17 rfl rfl)
theorem dX7_qPartTold_183 : decode cX7_qPartTold 183 = .ok (.goto (-181), 3) := dk_167 255 75 (dk_at dksX7_qPartTold_7 18 rfl rfl)
theorem dX7_qPartTold_186 : decode cX7_qPartTold 186 = .ok (.aload_n 0, 1) := dk_42 (dk_at dksX7_qPartTold_7 21 rfl rfl)
theorem dX7_qPartTold_187 : decode cX7_qPartTold 187 = .ok (.getfield 278, 3) := dk_180 1 22 (dk_at dksX7_qPartTold_8 0 rfl rfl)
theorem dX7_qPartTold_190 : decode cX7_qPartTold 190 = .ok (.ifCond .eq 4, 3) := dk_153 0 4 (dk_at dksX7_qPartTold_8 3 rfl rfl)
theorem dX7_qPartTold_193 : decode cX7_qPartTold 193 = .ok (.return_, 1) := dk_177 (dk_at dksX7_qPartTold_8 6 rfl rfl)
theorem dX7_qPartTold_194 : decode cX7_qPartTold 194 = .ok (.aload_n 0, 1) := dk_42 (dk_at dksX7_qPartTold_8 7 rfl rfl)
theorem dX7_qPartTold_195 : decode cX7_qPartTold 195 = .ok (.iconst 0, 1) := dk_3 (dk_at dksX7_qPartTold_8 8 rfl rfl)
theorem dX7_qPartTold_196 : decode cX7_qPartTold 196 = .ok (.bipush 11, 2) := dk_16 11 (dk_at dksX7_qPartTold_8 9 rfl rfl)
theorem dX7_qPartTold_198 : decode cX7_qPartTold 198 = .ok (.invokevirtual 694, 3) := dk_182 2 182 (dk_at dksX7_qPartTold_8 11 rfl rfl)
theorem dX7_qPartTold_201 : decode cX7_qPartTold 201 = .ok (.istore_n 2, 1) := dk_61 (dk_at dksX7_qPartTold_8 14 rfl rfl)
theorem dX7_qPartTold_202 : decode cX7_qPartTold 202 = .ok (.iload_n 2, 1) := dk_28 (dk_at dksX7_qPartTold_8 15 rfl rfl)
theorem dX7_qPartTold_203 : decode cX7_qPartTold 203 = .ok (.iconst (-1), 1) := dk_2 (dk_at dksX7_qPartTold_8 16 rfl rfl)
theorem dX7_qPartTold_204 : decode cX7_qPartTold 204 = .ok (.if_icmp .eq 8, 3) := dk_159 0 8 (dk_at dksX7_qPartTold_8 17 rfl rfl)
theorem dX7_qPartTold_207 : decode cX7_qPartTold 207 = .ok (.aload_n 0, 1) := dk_42 (dk_at dksX7_qPartTold_8 20 rfl rfl)
theorem dX7_qPartTold_208 : decode cX7_qPartTold 208 = .ok (.iload_n 2, 1) := dk_28 (dk_at dksX7_qPartTold_8 21 rfl rfl)
theorem dX7_qPartTold_209 : decode cX7_qPartTold 209 = .ok (.invokevirtual 700, 3) := dk_182 2 188 (dk_at dksX7_qPartTold_9 0 rfl rfl)
theorem dX7_qPartTold_212 : decode cX7_qPartTold 212 = .ok (.aload_n 0, 1) := dk_42 (dk_at dksX7_qPartTold_9 3 rfl rfl)
theorem dX7_qPartTold_213 : decode cX7_qPartTold 213 = .ok (.iload_n 2, 1) := dk_28 (dk_at dksX7_qPartTold_9 4 rfl rfl)
theorem dX7_qPartTold_214 : decode cX7_qPartTold 214 = .ok (.iconst (-1), 1) := dk_2 (dk_at dksX7_qPartTold_9 5 rfl rfl)
theorem dX7_qPartTold_215 : decode cX7_qPartTold 215 = .ok (.if_icmp .eq 10, 3) := dk_159 0 10 (dk_at dksX7_qPartTold_9 6 rfl rfl)
theorem dX7_qPartTold_218 : decode cX7_qPartTold 218 = .ok (.bipush 40, 2) := dk_16 40 (dk_at dksX7_qPartTold_9 9 rfl rfl)
theorem dX7_qPartTold_220 : decode cX7_qPartTold 220 = .ok (.iload_n 2, 1) := dk_28 (dk_at dksX7_qPartTold_9 11 rfl rfl)
theorem dX7_qPartTold_221 : decode cX7_qPartTold 221 = .ok (.iadd, 1) := dk_96 (dk_at dksX7_qPartTold_9 12 rfl rfl)
theorem dX7_qPartTold_222 : decode cX7_qPartTold 222 = .ok (.goto 15, 3) := dk_167 0 15 (dk_at dksX7_qPartTold_9 13 rfl rfl)
theorem dX7_qPartTold_225 : decode cX7_qPartTold 225 = .ok (.sipush 1000, 3) := dk_17 3 232 (dk_at dksX7_qPartTold_9 16 rfl rfl)
theorem dX7_qPartTold_228 : decode cX7_qPartTold 228 = .ok (.aload_n 0, 1) := dk_42 (dk_at dksX7_qPartTold_9 19 rfl rfl)
theorem dX7_qPartTold_229 : decode cX7_qPartTold 229 = .ok (.iconst 0, 1) := dk_3 (dk_at dksX7_qPartTold_9 20 rfl rfl)
theorem dX7_qPartTold_230 : decode cX7_qPartTold 230 = .ok (.sipush 9999, 3) := dk_17 39 15 (dk_at dksX7_qPartTold_9 21 rfl rfl)
theorem dX7_qPartTold_233 : decode cX7_qPartTold 233 = .ok (.invokevirtual 352, 3) := dk_182 1 96 (dk_at dksX7_qPartTold_10 0 rfl rfl)
theorem dX7_qPartTold_236 : decode cX7_qPartTold 236 = .ok (.iadd, 1) := dk_96 (dk_at dksX7_qPartTold_10 3 rfl rfl)
theorem dX7_qPartTold_237 : decode cX7_qPartTold 237 = .ok (.invokevirtual 679, 3) := dk_182 2 167 (dk_at dksX7_qPartTold_10 4 rfl rfl)
theorem dX7_qPartTold_240 : decode cX7_qPartTold 240 = .ok (.aload_n 0, 1) := dk_42 (dk_at dksX7_qPartTold_10 7 rfl rfl)
theorem dX7_qPartTold_241 : decode cX7_qPartTold 241 = .ok (.invokevirtual 703, 3) := dk_182 2 191 (dk_at dksX7_qPartTold_10 8 rfl rfl)
theorem dX7_qPartTold_244 : decode cX7_qPartTold 244 = .ok (.return_, 1) := dk_177 (dk_at dksX7_qPartTold_10 11 rfl rfl)
abbrev cX7_qWordOf : ByteArray := prog_25_method_124_code
def yX7_qWordOf : MethodName := ⟨RX7, "qWordOf", "(II)I"⟩
def dkwX7_qWordOf_1 : List UInt8 := [167, 0, 4, 2, 172]
abbrev dktX7_qWordOf_1 : List UInt8 := dkwX7_qWordOf_1 ++ []
def dkwX7_qWordOf_0 : List UInt8 := [42, 182, 2, 176, 62, 29, 27, 161, 0, 20, 29, 28, 162, 0, 15, 42, 29, 182, 2, 179, 153, 0, 7, 29]
abbrev dktX7_qWordOf_0 : List UInt8 := dkwX7_qWordOf_0 ++ dktX7_qWordOf_1
theorem dksX7_qWordOf_0 : cX7_qWordOf.data.toList.drop 0 = dktX7_qWordOf_0 := by decide +kernel
theorem dksX7_qWordOf_1 : cX7_qWordOf.data.toList.drop 24 = dktX7_qWordOf_1 := dk_seg dksX7_qWordOf_0 24 rfl rfl
theorem dX7_qWordOf_0 : decode cX7_qWordOf 0 = .ok (.aload_n 0, 1) := dk_42 (dk_at dksX7_qWordOf_0 0 rfl rfl)
theorem dX7_qWordOf_1 : decode cX7_qWordOf 1 = .ok (.invokevirtual 688, 3) := dk_182 2 176 (dk_at dksX7_qWordOf_0 1 rfl rfl)
theorem dX7_qWordOf_4 : decode cX7_qWordOf 4 = .ok (.istore_n 3, 1) := dk_62 (dk_at dksX7_qWordOf_0 4 rfl rfl)
theorem dX7_qWordOf_5 : decode cX7_qWordOf 5 = .ok (.iload_n 3, 1) := dk_29 (dk_at dksX7_qWordOf_0 5 rfl rfl)
theorem dX7_qWordOf_6 : decode cX7_qWordOf 6 = .ok (.iload_n 1, 1) := dk_27 (dk_at dksX7_qWordOf_0 6 rfl rfl)
theorem dX7_qWordOf_7 : decode cX7_qWordOf 7 = .ok (.if_icmp .lt 20, 3) := dk_161 0 20 (dk_at dksX7_qWordOf_0 7 rfl rfl)
theorem dX7_qWordOf_10 : decode cX7_qWordOf 10 = .ok (.iload_n 3, 1) := dk_29 (dk_at dksX7_qWordOf_0 10 rfl rfl)
theorem dX7_qWordOf_11 : decode cX7_qWordOf 11 = .ok (.iload_n 2, 1) := dk_28 (dk_at dksX7_qWordOf_0 11 rfl rfl)
theorem dX7_qWordOf_12 : decode cX7_qWordOf 12 = .ok (.if_icmp .ge 15, 3) := dk_162 0 15 (dk_at dksX7_qWordOf_0 12 rfl rfl)
theorem dX7_qWordOf_15 : decode cX7_qWordOf 15 = .ok (.aload_n 0, 1) := dk_42 (dk_at dksX7_qWordOf_0 15 rfl rfl)
theorem dX7_qWordOf_16 : decode cX7_qWordOf 16 = .ok (.iload_n 3, 1) := dk_29 (dk_at dksX7_qWordOf_0 16 rfl rfl)
theorem dX7_qWordOf_17 : decode cX7_qWordOf 17 = .ok (.invokevirtual 691, 3) := dk_182 2 179 (dk_at dksX7_qWordOf_0 17 rfl rfl)
theorem dX7_qWordOf_20 : decode cX7_qWordOf 20 = .ok (.ifCond .eq 7, 3) := dk_153 0 7 (dk_at dksX7_qWordOf_0 20 rfl rfl)
theorem dX7_qWordOf_23 : decode cX7_qWordOf 23 = .ok (.iload_n 3, 1) := dk_29 (dk_at dksX7_qWordOf_0 23 rfl rfl)
theorem dX7_qWordOf_24 : decode cX7_qWordOf 24 = .ok (.goto 4, 3) := dk_167 0 4 (dk_at dksX7_qWordOf_1 0 rfl rfl)
theorem dX7_qWordOf_27 : decode cX7_qWordOf 27 = .ok (.iconst (-1), 1) := dk_2 (dk_at dksX7_qWordOf_1 3 rfl rfl)
theorem dX7_qWordOf_28 : decode cX7_qWordOf 28 = .ok (.ireturn, 1) := dk_172 (dk_at dksX7_qWordOf_1 4 rfl rfl)
abbrev cX7_qWordHere : ByteArray := prog_25_method_123_code
def yX7_qWordHere : MethodName := ⟨RX7, "qWordHere", "()I"⟩
def dkwX7_qWordHere_6 : List UInt8 := [16, 9, 172, 42, 42, 180, 1, 4, 182, 1, 45, 153, 0, 6, 16, 10, 172, 2, 172]
abbrev dktX7_qWordHere_6 : List UInt8 := dkwX7_qWordHere_6 ++ []
def dkwX7_qWordHere_5 : List UInt8 := [42, 180, 0, 254, 182, 1, 45, 153, 0, 6, 16, 8, 172, 42, 42, 180, 1, 1, 182, 1, 45, 153, 0, 6]
abbrev dktX7_qWordHere_5 : List UInt8 := dkwX7_qWordHere_5 ++ dktX7_qWordHere_6
def dkwX7_qWordHere_4 : List UInt8 := [182, 1, 45, 153, 0, 6, 16, 6, 172, 42, 42, 180, 0, 251, 182, 1, 45, 153, 0, 6, 16, 7, 172, 42]
abbrev dktX7_qWordHere_4 : List UInt8 := dkwX7_qWordHere_4 ++ dktX7_qWordHere_5
def dkwX7_qWordHere_3 : List UInt8 := [153, 0, 5, 7, 172, 42, 42, 180, 0, 245, 182, 1, 45, 153, 0, 5, 8, 172, 42, 42, 180, 0, 248]
abbrev dktX7_qWordHere_3 : List UInt8 := dkwX7_qWordHere_3 ++ dktX7_qWordHere_4
def dkwX7_qWordHere_2 : List UInt8 := [16, 11, 172, 42, 42, 180, 0, 239, 182, 1, 45, 153, 0, 5, 6, 172, 42, 42, 180, 0, 242, 182, 1, 45]
abbrev dktX7_qWordHere_2 : List UInt8 := dkwX7_qWordHere_2 ++ dktX7_qWordHere_3
def dkwX7_qWordHere_1 : List UInt8 := [4, 172, 42, 42, 180, 0, 236, 182, 1, 45, 153, 0, 17, 42, 180, 1, 80, 153, 0, 7, 5, 167, 0, 5]
abbrev dktX7_qWordHere_1 : List UInt8 := dkwX7_qWordHere_1 ++ dktX7_qWordHere_2
def dkwX7_qWordHere_0 : List UInt8 := [42, 42, 180, 0, 230, 182, 1, 45, 153, 0, 5, 3, 172, 42, 42, 180, 0, 233, 182, 1, 45, 153, 0, 5]
abbrev dktX7_qWordHere_0 : List UInt8 := dkwX7_qWordHere_0 ++ dktX7_qWordHere_1
theorem dksX7_qWordHere_0 : cX7_qWordHere.data.toList.drop 0 = dktX7_qWordHere_0 := by decide +kernel
theorem dksX7_qWordHere_1 : cX7_qWordHere.data.toList.drop 24 = dktX7_qWordHere_1 := dk_seg dksX7_qWordHere_0 24 rfl rfl
theorem dksX7_qWordHere_2 : cX7_qWordHere.data.toList.drop 48 = dktX7_qWordHere_2 := dk_seg dksX7_qWordHere_1 24 rfl rfl
theorem dksX7_qWordHere_3 : cX7_qWordHere.data.toList.drop 72 = dktX7_qWordHere_3 := dk_seg dksX7_qWordHere_2 24 rfl rfl
theorem dksX7_qWordHere_4 : cX7_qWordHere.data.toList.drop 95 = dktX7_qWordHere_4 := dk_seg dksX7_qWordHere_3 23 rfl rfl
theorem dksX7_qWordHere_5 : cX7_qWordHere.data.toList.drop 119 = dktX7_qWordHere_5 := dk_seg dksX7_qWordHere_4 24 rfl rfl
theorem dksX7_qWordHere_6 : cX7_qWordHere.data.toList.drop 143 = dktX7_qWordHere_6 := dk_seg dksX7_qWordHere_5 24 rfl rfl
theorem dX7_qWordHere_0 : decode cX7_qWordHere 0 = .ok (.aload_n 0, 1) := dk_42 (dk_at dksX7_qWordHere_0 0 rfl rfl)
theorem dX7_qWordHere_1 : decode cX7_qWordHere 1 = .ok (.aload_n 0, 1) := dk_42 (dk_at dksX7_qWordHere_0 1 rfl rfl)
theorem dX7_qWordHere_2 : decode cX7_qWordHere 2 = .ok (.getfield 230, 3) := dk_180 0 230 (dk_at dksX7_qWordHere_0 2 rfl rfl)
theorem dX7_qWordHere_5 : decode cX7_qWordHere 5 = .ok (.invokevirtual 301, 3) := dk_182 1 45 (dk_at dksX7_qWordHere_0 5 rfl rfl)
theorem dX7_qWordHere_8 : decode cX7_qWordHere 8 = .ok (.ifCond .eq 5, 3) := dk_153 0 5 (dk_at dksX7_qWordHere_0 8 rfl rfl)
theorem dX7_qWordHere_11 : decode cX7_qWordHere 11 = .ok (.iconst 0, 1) := dk_3 (dk_at dksX7_qWordHere_0 11 rfl rfl)
theorem dX7_qWordHere_12 : decode cX7_qWordHere 12 = .ok (.ireturn, 1) := dk_172 (dk_at dksX7_qWordHere_0 12 rfl rfl)
theorem dX7_qWordHere_13 : decode cX7_qWordHere 13 = .ok (.aload_n 0, 1) := dk_42 (dk_at dksX7_qWordHere_0 13 rfl rfl)
theorem dX7_qWordHere_14 : decode cX7_qWordHere 14 = .ok (.aload_n 0, 1) := dk_42 (dk_at dksX7_qWordHere_0 14 rfl rfl)
theorem dX7_qWordHere_15 : decode cX7_qWordHere 15 = .ok (.getfield 233, 3) := dk_180 0 233 (dk_at dksX7_qWordHere_0 15 rfl rfl)
theorem dX7_qWordHere_18 : decode cX7_qWordHere 18 = .ok (.invokevirtual 301, 3) := dk_182 1 45 (dk_at dksX7_qWordHere_0 18 rfl rfl)
theorem dX7_qWordHere_21 : decode cX7_qWordHere 21 = .ok (.ifCond .eq 5, 3) := dk_153 0 5 (dk_at dksX7_qWordHere_0 21 rfl rfl)
theorem dX7_qWordHere_24 : decode cX7_qWordHere 24 = .ok (.iconst 1, 1) := dk_4 (dk_at dksX7_qWordHere_1 0 rfl rfl)
theorem dX7_qWordHere_25 : decode cX7_qWordHere 25 = .ok (.ireturn, 1) := dk_172 (dk_at dksX7_qWordHere_1 1 rfl rfl)
theorem dX7_qWordHere_26 : decode cX7_qWordHere 26 = .ok (.aload_n 0, 1) := dk_42 (dk_at dksX7_qWordHere_1 2 rfl rfl)
theorem dX7_qWordHere_27 : decode cX7_qWordHere 27 = .ok (.aload_n 0, 1) := dk_42 (dk_at dksX7_qWordHere_1 3 rfl rfl)
theorem dX7_qWordHere_28 : decode cX7_qWordHere 28 = .ok (.getfield 236, 3) := dk_180 0 236 (dk_at dksX7_qWordHere_1 4 rfl rfl)
theorem dX7_qWordHere_31 : decode cX7_qWordHere 31 = .ok (.invokevirtual 301, 3) := dk_182 1 45 (dk_at dksX7_qWordHere_1 7 rfl rfl)
theorem dX7_qWordHere_34 : decode cX7_qWordHere 34 = .ok (.ifCond .eq 17, 3) := dk_153 0 17 (dk_at dksX7_qWordHere_1 10 rfl rfl)
theorem dX7_qWordHere_37 : decode cX7_qWordHere 37 = .ok (.aload_n 0, 1) := dk_42 (dk_at dksX7_qWordHere_1 13 rfl rfl)
theorem dX7_qWordHere_38 : decode cX7_qWordHere 38 = .ok (.getfield 336, 3) := dk_180 1 80 (dk_at dksX7_qWordHere_1 14 rfl rfl)
theorem dX7_qWordHere_41 : decode cX7_qWordHere 41 = .ok (.ifCond .eq 7, 3) := dk_153 0 7 (dk_at dksX7_qWordHere_1 17 rfl rfl)
theorem dX7_qWordHere_44 : decode cX7_qWordHere 44 = .ok (.iconst 2, 1) := dk_5 (dk_at dksX7_qWordHere_1 20 rfl rfl)
theorem dX7_qWordHere_45 : decode cX7_qWordHere 45 = .ok (.goto 5, 3) := dk_167 0 5 (dk_at dksX7_qWordHere_1 21 rfl rfl)
theorem dX7_qWordHere_48 : decode cX7_qWordHere 48 = .ok (.bipush 11, 2) := dk_16 11 (dk_at dksX7_qWordHere_2 0 rfl rfl)
theorem dX7_qWordHere_50 : decode cX7_qWordHere 50 = .ok (.ireturn, 1) := dk_172 (dk_at dksX7_qWordHere_2 2 rfl rfl)
theorem dX7_qWordHere_51 : decode cX7_qWordHere 51 = .ok (.aload_n 0, 1) := dk_42 (dk_at dksX7_qWordHere_2 3 rfl rfl)
theorem dX7_qWordHere_52 : decode cX7_qWordHere 52 = .ok (.aload_n 0, 1) := dk_42 (dk_at dksX7_qWordHere_2 4 rfl rfl)
theorem dX7_qWordHere_53 : decode cX7_qWordHere 53 = .ok (.getfield 239, 3) := dk_180 0 239 (dk_at dksX7_qWordHere_2 5 rfl rfl)
theorem dX7_qWordHere_56 : decode cX7_qWordHere 56 = .ok (.invokevirtual 301, 3) := dk_182 1 45 (dk_at dksX7_qWordHere_2 8 rfl rfl)
theorem dX7_qWordHere_59 : decode cX7_qWordHere 59 = .ok (.ifCond .eq 5, 3) := dk_153 0 5 (dk_at dksX7_qWordHere_2 11 rfl rfl)
theorem dX7_qWordHere_62 : decode cX7_qWordHere 62 = .ok (.iconst 3, 1) := dk_6 (dk_at dksX7_qWordHere_2 14 rfl rfl)
theorem dX7_qWordHere_63 : decode cX7_qWordHere 63 = .ok (.ireturn, 1) := dk_172 (dk_at dksX7_qWordHere_2 15 rfl rfl)
theorem dX7_qWordHere_64 : decode cX7_qWordHere 64 = .ok (.aload_n 0, 1) := dk_42 (dk_at dksX7_qWordHere_2 16 rfl rfl)
theorem dX7_qWordHere_65 : decode cX7_qWordHere 65 = .ok (.aload_n 0, 1) := dk_42 (dk_at dksX7_qWordHere_2 17 rfl rfl)
theorem dX7_qWordHere_66 : decode cX7_qWordHere 66 = .ok (.getfield 242, 3) := dk_180 0 242 (dk_at dksX7_qWordHere_2 18 rfl rfl)
theorem dX7_qWordHere_69 : decode cX7_qWordHere 69 = .ok (.invokevirtual 301, 3) := dk_182 1 45 (dk_at dksX7_qWordHere_2 21 rfl rfl)
theorem dX7_qWordHere_72 : decode cX7_qWordHere 72 = .ok (.ifCond .eq 5, 3) := dk_153 0 5 (dk_at dksX7_qWordHere_3 0 rfl rfl)
theorem dX7_qWordHere_75 : decode cX7_qWordHere 75 = .ok (.iconst 4, 1) := dk_7 (dk_at dksX7_qWordHere_3 3 rfl rfl)
theorem dX7_qWordHere_76 : decode cX7_qWordHere 76 = .ok (.ireturn, 1) := dk_172 (dk_at dksX7_qWordHere_3 4 rfl rfl)
theorem dX7_qWordHere_77 : decode cX7_qWordHere 77 = .ok (.aload_n 0, 1) := dk_42 (dk_at dksX7_qWordHere_3 5 rfl rfl)
theorem dX7_qWordHere_78 : decode cX7_qWordHere 78 = .ok (.aload_n 0, 1) := dk_42 (dk_at dksX7_qWordHere_3 6 rfl rfl)
theorem dX7_qWordHere_79 : decode cX7_qWordHere 79 = .ok (.getfield 245, 3) := dk_180 0 245 (dk_at dksX7_qWordHere_3 7 rfl rfl)
theorem dX7_qWordHere_82 : decode cX7_qWordHere 82 = .ok (.invokevirtual 301, 3) := dk_182 1 45 (dk_at dksX7_qWordHere_3 10 rfl rfl)
theorem dX7_qWordHere_85 : decode cX7_qWordHere 85 = .ok (.ifCond .eq 5, 3) := dk_153 0 5 (dk_at dksX7_qWordHere_3 13 rfl rfl)
theorem dX7_qWordHere_88 : decode cX7_qWordHere 88 = .ok (.iconst 5, 1) := dk_8 (dk_at dksX7_qWordHere_3 16 rfl rfl)
theorem dX7_qWordHere_89 : decode cX7_qWordHere 89 = .ok (.ireturn, 1) := dk_172 (dk_at dksX7_qWordHere_3 17 rfl rfl)
theorem dX7_qWordHere_90 : decode cX7_qWordHere 90 = .ok (.aload_n 0, 1) := dk_42 (dk_at dksX7_qWordHere_3 18 rfl rfl)
theorem dX7_qWordHere_91 : decode cX7_qWordHere 91 = .ok (.aload_n 0, 1) := dk_42 (dk_at dksX7_qWordHere_3 19 rfl rfl)
theorem dX7_qWordHere_92 : decode cX7_qWordHere 92 = .ok (.getfield 248, 3) := dk_180 0 248 (dk_at dksX7_qWordHere_3 20 rfl rfl)
theorem dX7_qWordHere_95 : decode cX7_qWordHere 95 = .ok (.invokevirtual 301, 3) := dk_182 1 45 (dk_at dksX7_qWordHere_4 0 rfl rfl)
theorem dX7_qWordHere_98 : decode cX7_qWordHere 98 = .ok (.ifCond .eq 6, 3) := dk_153 0 6 (dk_at dksX7_qWordHere_4 3 rfl rfl)
theorem dX7_qWordHere_101 : decode cX7_qWordHere 101 = .ok (.bipush 6, 2) := dk_16 6 (dk_at dksX7_qWordHere_4 6 rfl rfl)
theorem dX7_qWordHere_103 : decode cX7_qWordHere 103 = .ok (.ireturn, 1) := dk_172 (dk_at dksX7_qWordHere_4 8 rfl rfl)
theorem dX7_qWordHere_104 : decode cX7_qWordHere 104 = .ok (.aload_n 0, 1) := dk_42 (dk_at dksX7_qWordHere_4 9 rfl rfl)
theorem dX7_qWordHere_105 : decode cX7_qWordHere 105 = .ok (.aload_n 0, 1) := dk_42 (dk_at dksX7_qWordHere_4 10 rfl rfl)
theorem dX7_qWordHere_106 : decode cX7_qWordHere 106 = .ok (.getfield 251, 3) := dk_180 0 251 (dk_at dksX7_qWordHere_4 11 rfl rfl)
theorem dX7_qWordHere_109 : decode cX7_qWordHere 109 = .ok (.invokevirtual 301, 3) := dk_182 1 45 (dk_at dksX7_qWordHere_4 14 rfl rfl)
theorem dX7_qWordHere_112 : decode cX7_qWordHere 112 = .ok (.ifCond .eq 6, 3) := dk_153 0 6 (dk_at dksX7_qWordHere_4 17 rfl rfl)
theorem dX7_qWordHere_115 : decode cX7_qWordHere 115 = .ok (.bipush 7, 2) := dk_16 7 (dk_at dksX7_qWordHere_4 20 rfl rfl)
theorem dX7_qWordHere_117 : decode cX7_qWordHere 117 = .ok (.ireturn, 1) := dk_172 (dk_at dksX7_qWordHere_4 22 rfl rfl)
theorem dX7_qWordHere_118 : decode cX7_qWordHere 118 = .ok (.aload_n 0, 1) := dk_42 (dk_at dksX7_qWordHere_4 23 rfl rfl)
theorem dX7_qWordHere_119 : decode cX7_qWordHere 119 = .ok (.aload_n 0, 1) := dk_42 (dk_at dksX7_qWordHere_5 0 rfl rfl)
theorem dX7_qWordHere_120 : decode cX7_qWordHere 120 = .ok (.getfield 254, 3) := dk_180 0 254 (dk_at dksX7_qWordHere_5 1 rfl rfl)
theorem dX7_qWordHere_123 : decode cX7_qWordHere 123 = .ok (.invokevirtual 301, 3) := dk_182 1 45 (dk_at dksX7_qWordHere_5 4 rfl rfl)
theorem dX7_qWordHere_126 : decode cX7_qWordHere 126 = .ok (.ifCond .eq 6, 3) := dk_153 0 6 (dk_at dksX7_qWordHere_5 7 rfl rfl)
theorem dX7_qWordHere_129 : decode cX7_qWordHere 129 = .ok (.bipush 8, 2) := dk_16 8 (dk_at dksX7_qWordHere_5 10 rfl rfl)
theorem dX7_qWordHere_131 : decode cX7_qWordHere 131 = .ok (.ireturn, 1) := dk_172 (dk_at dksX7_qWordHere_5 12 rfl rfl)
theorem dX7_qWordHere_132 : decode cX7_qWordHere 132 = .ok (.aload_n 0, 1) := dk_42 (dk_at dksX7_qWordHere_5 13 rfl rfl)
theorem dX7_qWordHere_133 : decode cX7_qWordHere 133 = .ok (.aload_n 0, 1) := dk_42 (dk_at dksX7_qWordHere_5 14 rfl rfl)
theorem dX7_qWordHere_134 : decode cX7_qWordHere 134 = .ok (.getfield 257, 3) := dk_180 1 1 (dk_at dksX7_qWordHere_5 15 rfl rfl)
theorem dX7_qWordHere_137 : decode cX7_qWordHere 137 = .ok (.invokevirtual 301, 3) := dk_182 1 45 (dk_at dksX7_qWordHere_5 18 rfl rfl)
theorem dX7_qWordHere_140 : decode cX7_qWordHere 140 = .ok (.ifCond .eq 6, 3) := dk_153 0 6 (dk_at dksX7_qWordHere_5 21 rfl rfl)
theorem dX7_qWordHere_143 : decode cX7_qWordHere 143 = .ok (.bipush 9, 2) := dk_16 9 (dk_at dksX7_qWordHere_6 0 rfl rfl)
theorem dX7_qWordHere_145 : decode cX7_qWordHere 145 = .ok (.ireturn, 1) := dk_172 (dk_at dksX7_qWordHere_6 2 rfl rfl)
theorem dX7_qWordHere_146 : decode cX7_qWordHere 146 = .ok (.aload_n 0, 1) := dk_42 (dk_at dksX7_qWordHere_6 3 rfl rfl)
theorem dX7_qWordHere_147 : decode cX7_qWordHere 147 = .ok (.aload_n 0, 1) := dk_42 (dk_at dksX7_qWordHere_6 4 rfl rfl)
theorem dX7_qWordHere_148 : decode cX7_qWordHere 148 = .ok (.getfield 260, 3) := dk_180 1 4 (dk_at dksX7_qWordHere_6 5 rfl rfl)
theorem dX7_qWordHere_151 : decode cX7_qWordHere 151 = .ok (.invokevirtual 301, 3) := dk_182 1 45 (dk_at dksX7_qWordHere_6 8 rfl rfl)
theorem dX7_qWordHere_154 : decode cX7_qWordHere 154 = .ok (.ifCond .eq 6, 3) := dk_153 0 6 (dk_at dksX7_qWordHere_6 11 rfl rfl)
theorem dX7_qWordHere_157 : decode cX7_qWordHere 157 = .ok (.bipush 10, 2) := dk_16 10 (dk_at dksX7_qWordHere_6 14 rfl rfl)
theorem dX7_qWordHere_159 : decode cX7_qWordHere 159 = .ok (.ireturn, 1) := dk_172 (dk_at dksX7_qWordHere_6 16 rfl rfl)
theorem dX7_qWordHere_160 : decode cX7_qWordHere 160 = .ok (.iconst (-1), 1) := dk_2 (dk_at dksX7_qWordHere_6 17 rfl rfl)
theorem dX7_qWordHere_161 : decode cX7_qWordHere 161 = .ok (.ireturn, 1) := dk_172 (dk_at dksX7_qWordHere_6 18 rfl rfl)
abbrev cX7_isAllowed : ByteArray := prog_25_method_17_code
def yX7_isAllowed : MethodName := ⟨RX7, "isAllowed", "(I)Z"⟩
def dkwX7_isAllowed_1 : List UInt8 := [164, 0, 7, 4, 167, 0, 4, 3, 172]
abbrev dktX7_isAllowed_1 : List UInt8 := dkwX7_isAllowed_1 ++ []
def dkwX7_isAllowed_0 : List UInt8 := [42, 180, 1, 80, 153, 0, 16, 27, 7, 162, 0, 7, 4, 167, 0, 17, 3, 167, 0, 13, 27, 5]
abbrev dktX7_isAllowed_0 : List UInt8 := dkwX7_isAllowed_0 ++ dktX7_isAllowed_1
theorem dksX7_isAllowed_0 : cX7_isAllowed.data.toList.drop 0 = dktX7_isAllowed_0 := by decide +kernel
theorem dksX7_isAllowed_1 : cX7_isAllowed.data.toList.drop 22 = dktX7_isAllowed_1 := dk_seg dksX7_isAllowed_0 22 rfl rfl
theorem dX7_isAllowed_0 : decode cX7_isAllowed 0 = .ok (.aload_n 0, 1) := dk_42 (dk_at dksX7_isAllowed_0 0 rfl rfl)
theorem dX7_isAllowed_1 : decode cX7_isAllowed 1 = .ok (.getfield 336, 3) := dk_180 1 80 (dk_at dksX7_isAllowed_0 1 rfl rfl)
theorem dX7_isAllowed_4 : decode cX7_isAllowed 4 = .ok (.ifCond .eq 16, 3) := dk_153 0 16 (dk_at dksX7_isAllowed_0 4 rfl rfl)
theorem dX7_isAllowed_7 : decode cX7_isAllowed 7 = .ok (.iload_n 1, 1) := dk_27 (dk_at dksX7_isAllowed_0 7 rfl rfl)
theorem dX7_isAllowed_8 : decode cX7_isAllowed 8 = .ok (.iconst 4, 1) := dk_7 (dk_at dksX7_isAllowed_0 8 rfl rfl)
theorem dX7_isAllowed_9 : decode cX7_isAllowed 9 = .ok (.if_icmp .ge 7, 3) := dk_162 0 7 (dk_at dksX7_isAllowed_0 9 rfl rfl)
theorem dX7_isAllowed_12 : decode cX7_isAllowed 12 = .ok (.iconst 1, 1) := dk_4 (dk_at dksX7_isAllowed_0 12 rfl rfl)
theorem dX7_isAllowed_13 : decode cX7_isAllowed 13 = .ok (.goto 17, 3) := dk_167 0 17 (dk_at dksX7_isAllowed_0 13 rfl rfl)
theorem dX7_isAllowed_16 : decode cX7_isAllowed 16 = .ok (.iconst 0, 1) := dk_3 (dk_at dksX7_isAllowed_0 16 rfl rfl)
theorem dX7_isAllowed_17 : decode cX7_isAllowed 17 = .ok (.goto 13, 3) := dk_167 0 13 (dk_at dksX7_isAllowed_0 17 rfl rfl)
theorem dX7_isAllowed_20 : decode cX7_isAllowed 20 = .ok (.iload_n 1, 1) := dk_27 (dk_at dksX7_isAllowed_0 20 rfl rfl)
theorem dX7_isAllowed_21 : decode cX7_isAllowed 21 = .ok (.iconst 2, 1) := dk_5 (dk_at dksX7_isAllowed_0 21 rfl rfl)
theorem dX7_isAllowed_22 : decode cX7_isAllowed 22 = .ok (.if_icmp .le 7, 3) := dk_164 0 7 (dk_at dksX7_isAllowed_1 0 rfl rfl)
theorem dX7_isAllowed_25 : decode cX7_isAllowed 25 = .ok (.iconst 1, 1) := dk_4 (dk_at dksX7_isAllowed_1 3 rfl rfl)
theorem dX7_isAllowed_26 : decode cX7_isAllowed 26 = .ok (.goto 4, 3) := dk_167 0 4 (dk_at dksX7_isAllowed_1 4 rfl rfl)
theorem dX7_isAllowed_29 : decode cX7_isAllowed 29 = .ok (.iconst 0, 1) := dk_3 (dk_at dksX7_isAllowed_1 7 rfl rfl)
theorem dX7_isAllowed_30 : decode cX7_isAllowed 30 = .ok (.ireturn, 1) := dk_172 (dk_at dksX7_isAllowed_1 8 rfl rfl)
abbrev cX7_qOpens : ByteArray := prog_25_method_117_code
def yX7_qOpens : MethodName := ⟨RX7, "qOpens", "(II)V"⟩
def dkwX7_qOpens_2 : List UInt8 := [180, 1, 126, 4, 96, 181, 1, 126, 177]
abbrev dktX7_qOpens_2 : List UInt8 := dkwX7_qOpens_2 ++ []
def dkwX7_qOpens_1 : List UInt8 := [42, 89, 180, 1, 129, 4, 96, 181, 1, 129, 42, 180, 1, 10, 42, 180, 1, 126, 27, 79, 42, 89]
abbrev dktX7_qOpens_1 : List UInt8 := dkwX7_qOpens_1 ++ dktX7_qOpens_2
def dkwX7_qOpens_0 : List UInt8 := [42, 180, 1, 22, 153, 0, 4, 177, 42, 180, 1, 129, 16, 6, 160, 0, 10, 42, 7, 28, 182, 1, 52, 177]
abbrev dktX7_qOpens_0 : List UInt8 := dkwX7_qOpens_0 ++ dktX7_qOpens_1
theorem dksX7_qOpens_0 : cX7_qOpens.data.toList.drop 0 = dktX7_qOpens_0 := by decide +kernel
theorem dksX7_qOpens_1 : cX7_qOpens.data.toList.drop 24 = dktX7_qOpens_1 := dk_seg dksX7_qOpens_0 24 rfl rfl
theorem dksX7_qOpens_2 : cX7_qOpens.data.toList.drop 46 = dktX7_qOpens_2 := dk_seg dksX7_qOpens_1 22 rfl rfl
theorem dX7_qOpens_0 : decode cX7_qOpens 0 = .ok (.aload_n 0, 1) := dk_42 (dk_at dksX7_qOpens_0 0 rfl rfl)
theorem dX7_qOpens_1 : decode cX7_qOpens 1 = .ok (.getfield 278, 3) := dk_180 1 22 (dk_at dksX7_qOpens_0 1 rfl rfl)
theorem dX7_qOpens_4 : decode cX7_qOpens 4 = .ok (.ifCond .eq 4, 3) := dk_153 0 4 (dk_at dksX7_qOpens_0 4 rfl rfl)
theorem dX7_qOpens_7 : decode cX7_qOpens 7 = .ok (.return_, 1) := dk_177 (dk_at dksX7_qOpens_0 7 rfl rfl)
theorem dX7_qOpens_8 : decode cX7_qOpens 8 = .ok (.aload_n 0, 1) := dk_42 (dk_at dksX7_qOpens_0 8 rfl rfl)
theorem dX7_qOpens_9 : decode cX7_qOpens 9 = .ok (.getfield 385, 3) := dk_180 1 129 (dk_at dksX7_qOpens_0 9 rfl rfl)
theorem dX7_qOpens_12 : decode cX7_qOpens 12 = .ok (.bipush 6, 2) := dk_16 6 (dk_at dksX7_qOpens_0 12 rfl rfl)
theorem dX7_qOpens_14 : decode cX7_qOpens 14 = .ok (.if_icmp .ne 10, 3) := dk_160 0 10 (dk_at dksX7_qOpens_0 14 rfl rfl)
theorem dX7_qOpens_17 : decode cX7_qOpens 17 = .ok (.aload_n 0, 1) := dk_42 (dk_at dksX7_qOpens_0 17 rfl rfl)
theorem dX7_qOpens_18 : decode cX7_qOpens 18 = .ok (.iconst 4, 1) := dk_7 (dk_at dksX7_qOpens_0 18 rfl rfl)
theorem dX7_qOpens_19 : decode cX7_qOpens 19 = .ok (.iload_n 2, 1) := dk_28 (dk_at dksX7_qOpens_0 19 rfl rfl)
theorem dX7_qOpens_20 : decode cX7_qOpens 20 = .ok (.invokevirtual 308, 3) := dk_182 1 52 (dk_at dksX7_qOpens_0 20 rfl rfl)
theorem dX7_qOpens_23 : decode cX7_qOpens 23 = .ok (.return_, 1) := dk_177 (dk_at dksX7_qOpens_0 23 rfl rfl)
theorem dX7_qOpens_24 : decode cX7_qOpens 24 = .ok (.aload_n 0, 1) := dk_42 (dk_at dksX7_qOpens_1 0 rfl rfl)
theorem dX7_qOpens_25 : decode cX7_qOpens 25 = .ok (.dup, 1) := dk_89 (dk_at dksX7_qOpens_1 1 rfl rfl)
theorem dX7_qOpens_26 : decode cX7_qOpens 26 = .ok (.getfield 385, 3) := dk_180 1 129 (dk_at dksX7_qOpens_1 2 rfl rfl)
theorem dX7_qOpens_29 : decode cX7_qOpens 29 = .ok (.iconst 1, 1) := dk_4 (dk_at dksX7_qOpens_1 5 rfl rfl)
theorem dX7_qOpens_30 : decode cX7_qOpens 30 = .ok (.iadd, 1) := dk_96 (dk_at dksX7_qOpens_1 6 rfl rfl)
theorem dX7_qOpens_31 : decode cX7_qOpens 31 = .ok (.putfield 385, 3) := dk_181 1 129 (dk_at dksX7_qOpens_1 7 rfl rfl)
theorem dX7_qOpens_34 : decode cX7_qOpens 34 = .ok (.aload_n 0, 1) := dk_42 (dk_at dksX7_qOpens_1 10 rfl rfl)
theorem dX7_qOpens_35 : decode cX7_qOpens 35 = .ok (.getfield 266, 3) := dk_180 1 10 (dk_at dksX7_qOpens_1 11 rfl rfl)
theorem dX7_qOpens_38 : decode cX7_qOpens 38 = .ok (.aload_n 0, 1) := dk_42 (dk_at dksX7_qOpens_1 14 rfl rfl)
theorem dX7_qOpens_39 : decode cX7_qOpens 39 = .ok (.getfield 382, 3) := dk_180 1 126 (dk_at dksX7_qOpens_1 15 rfl rfl)
theorem dX7_qOpens_42 : decode cX7_qOpens 42 = .ok (.iload_n 1, 1) := dk_27 (dk_at dksX7_qOpens_1 18 rfl rfl)
theorem dX7_qOpens_43 : decode cX7_qOpens 43 = .ok (.iastore, 1) := dk_79 (dk_at dksX7_qOpens_1 19 rfl rfl)
theorem dX7_qOpens_44 : decode cX7_qOpens 44 = .ok (.aload_n 0, 1) := dk_42 (dk_at dksX7_qOpens_1 20 rfl rfl)
theorem dX7_qOpens_45 : decode cX7_qOpens 45 = .ok (.dup, 1) := dk_89 (dk_at dksX7_qOpens_1 21 rfl rfl)
theorem dX7_qOpens_46 : decode cX7_qOpens 46 = .ok (.getfield 382, 3) := dk_180 1 126 (dk_at dksX7_qOpens_2 0 rfl rfl)
theorem dX7_qOpens_49 : decode cX7_qOpens 49 = .ok (.iconst 1, 1) := dk_4 (dk_at dksX7_qOpens_2 3 rfl rfl)
theorem dX7_qOpens_50 : decode cX7_qOpens 50 = .ok (.iadd, 1) := dk_96 (dk_at dksX7_qOpens_2 4 rfl rfl)
theorem dX7_qOpens_51 : decode cX7_qOpens 51 = .ok (.putfield 382, 3) := dk_181 1 126 (dk_at dksX7_qOpens_2 5 rfl rfl)
theorem dX7_qOpens_54 : decode cX7_qOpens 54 = .ok (.return_, 1) := dk_177 (dk_at dksX7_qOpens_2 8 rfl rfl)
abbrev cX7_qAsksWord : ByteArray := prog_25_method_125_code
def yX7_qAsksWord : MethodName := ⟨RX7, "qAsksWord", "(I)V"⟩
def dkwX7_qAsksWord_7 : List UInt8 := [180, 1, 4, 182, 1, 92, 167, 0, 11, 42, 42, 180, 0, 236, 182, 1, 92, 177]
abbrev dktX7_qAsksWord_7 : List UInt8 := dkwX7_qAsksWord_7 ++ []
def dkwX7_qAsksWord_6 : List UInt8 := [180, 0, 254, 182, 1, 92, 167, 0, 33, 42, 42, 180, 1, 1, 182, 1, 92, 167, 0, 22, 42, 42]
abbrev dktX7_qAsksWord_6 : List UInt8 := dkwX7_qAsksWord_6 ++ dktX7_qAsksWord_7
def dkwX7_qAsksWord_5 : List UInt8 := [180, 0, 248, 182, 1, 92, 167, 0, 55, 42, 42, 180, 0, 251, 182, 1, 92, 167, 0, 44, 42, 42]
abbrev dktX7_qAsksWord_5 : List UInt8 := dkwX7_qAsksWord_5 ++ dktX7_qAsksWord_6
def dkwX7_qAsksWord_4 : List UInt8 := [180, 0, 242, 182, 1, 92, 167, 0, 77, 42, 42, 180, 0, 245, 182, 1, 92, 167, 0, 66, 42, 42]
abbrev dktX7_qAsksWord_4 : List UInt8 := dkwX7_qAsksWord_4 ++ dktX7_qAsksWord_5
def dkwX7_qAsksWord_3 : List UInt8 := [180, 0, 236, 182, 1, 92, 167, 0, 99, 42, 42, 180, 0, 239, 182, 1, 92, 167, 0, 88, 42, 42]
abbrev dktX7_qAsksWord_3 : List UInt8 := dkwX7_qAsksWord_3 ++ dktX7_qAsksWord_4
def dkwX7_qAsksWord_2 : List UInt8 := [42, 42, 180, 0, 230, 182, 1, 92, 167, 0, 121, 42, 42, 180, 0, 233, 182, 1, 92, 167, 0, 110, 42, 42]
abbrev dktX7_qAsksWord_2 : List UInt8 := dkwX7_qAsksWord_2 ++ dktX7_qAsksWord_3
def dkwX7_qAsksWord_1 : List UInt8 := [170, 0, 0, 0, 0, 0, 180, 0, 0, 0, 0, 0, 0, 0, 10, 0, 0, 0, 59, 0, 0, 0, 70, 0, 0, 0, 81, 0, 0, 0, 92, 0, 0, 0, 103, 0, 0, 0, 114, 0, 0, 0, 125, 0, 0, 0, 136, 0, 0, 0, 147, 0, 0, 0, 158, 0, 0, 0, 169]
abbrev dktX7_qAsksWord_1 : List UInt8 := dkwX7_qAsksWord_1 ++ dktX7_qAsksWord_2
def dkwX7_qAsksWord_0 : List UInt8 := [27]
abbrev dktX7_qAsksWord_0 : List UInt8 := dkwX7_qAsksWord_0 ++ dktX7_qAsksWord_1
theorem dksX7_qAsksWord_0 : cX7_qAsksWord.data.toList.drop 0 = dktX7_qAsksWord_0 := by decide +kernel
theorem dksX7_qAsksWord_1 : cX7_qAsksWord.data.toList.drop 1 = dktX7_qAsksWord_1 := dk_seg dksX7_qAsksWord_0 1 rfl rfl
theorem dksX7_qAsksWord_2 : cX7_qAsksWord.data.toList.drop 60 = dktX7_qAsksWord_2 := dk_seg dksX7_qAsksWord_1 59 rfl rfl
theorem dksX7_qAsksWord_3 : cX7_qAsksWord.data.toList.drop 84 = dktX7_qAsksWord_3 := dk_seg dksX7_qAsksWord_2 24 rfl rfl
theorem dksX7_qAsksWord_4 : cX7_qAsksWord.data.toList.drop 106 = dktX7_qAsksWord_4 := dk_seg dksX7_qAsksWord_3 22 rfl rfl
theorem dksX7_qAsksWord_5 : cX7_qAsksWord.data.toList.drop 128 = dktX7_qAsksWord_5 := dk_seg dksX7_qAsksWord_4 22 rfl rfl
theorem dksX7_qAsksWord_6 : cX7_qAsksWord.data.toList.drop 150 = dktX7_qAsksWord_6 := dk_seg dksX7_qAsksWord_5 22 rfl rfl
theorem dksX7_qAsksWord_7 : cX7_qAsksWord.data.toList.drop 172 = dktX7_qAsksWord_7 := dk_seg dksX7_qAsksWord_6 22 rfl rfl
theorem dX7_qAsksWord_0 : decode cX7_qAsksWord 0 = .ok (.iload_n 1, 1) := dk_27 (dk_at dksX7_qAsksWord_0 0 rfl rfl)
theorem dX7_qAsksWord_1 : decode cX7_qAsksWord 1 = .ok (.tableswitch 180 0 10 #[59, 70, 81, 92, 103, 114, 125, 136, 147, 158, 169], 59) := by decide +kernel
theorem dX7_qAsksWord_60 : decode cX7_qAsksWord 60 = .ok (.aload_n 0, 1) := dk_42 (dk_at dksX7_qAsksWord_2 0 rfl rfl)
theorem dX7_qAsksWord_61 : decode cX7_qAsksWord 61 = .ok (.aload_n 0, 1) := dk_42 (dk_at dksX7_qAsksWord_2 1 rfl rfl)
theorem dX7_qAsksWord_62 : decode cX7_qAsksWord 62 = .ok (.getfield 230, 3) := dk_180 0 230 (dk_at dksX7_qAsksWord_2 2 rfl rfl)
theorem dX7_qAsksWord_65 : decode cX7_qAsksWord 65 = .ok (.invokevirtual 348, 3) := dk_182 1 92 (dk_at dksX7_qAsksWord_2 5 rfl rfl)
theorem dX7_qAsksWord_68 : decode cX7_qAsksWord 68 = .ok (.goto 121, 3) := dk_167 0 121 (dk_at dksX7_qAsksWord_2 8 rfl rfl)
theorem dX7_qAsksWord_71 : decode cX7_qAsksWord 71 = .ok (.aload_n 0, 1) := dk_42 (dk_at dksX7_qAsksWord_2 11 rfl rfl)
theorem dX7_qAsksWord_72 : decode cX7_qAsksWord 72 = .ok (.aload_n 0, 1) := dk_42 (dk_at dksX7_qAsksWord_2 12 rfl rfl)
theorem dX7_qAsksWord_73 : decode cX7_qAsksWord 73 = .ok (.getfield 233, 3) := dk_180 0 233 (dk_at dksX7_qAsksWord_2 13 rfl rfl)
theorem dX7_qAsksWord_76 : decode cX7_qAsksWord 76 = .ok (.invokevirtual 348, 3) := dk_182 1 92 (dk_at dksX7_qAsksWord_2 16 rfl rfl)
theorem dX7_qAsksWord_79 : decode cX7_qAsksWord 79 = .ok (.goto 110, 3) := dk_167 0 110 (dk_at dksX7_qAsksWord_2 19 rfl rfl)
theorem dX7_qAsksWord_82 : decode cX7_qAsksWord 82 = .ok (.aload_n 0, 1) := dk_42 (dk_at dksX7_qAsksWord_2 22 rfl rfl)
theorem dX7_qAsksWord_83 : decode cX7_qAsksWord 83 = .ok (.aload_n 0, 1) := dk_42 (dk_at dksX7_qAsksWord_2 23 rfl rfl)
theorem dX7_qAsksWord_84 : decode cX7_qAsksWord 84 = .ok (.getfield 236, 3) := dk_180 0 236 (dk_at dksX7_qAsksWord_3 0 rfl rfl)
theorem dX7_qAsksWord_87 : decode cX7_qAsksWord 87 = .ok (.invokevirtual 348, 3) := dk_182 1 92 (dk_at dksX7_qAsksWord_3 3 rfl rfl)
theorem dX7_qAsksWord_90 : decode cX7_qAsksWord 90 = .ok (.goto 99, 3) := dk_167 0 99 (dk_at dksX7_qAsksWord_3 6 rfl rfl)
theorem dX7_qAsksWord_93 : decode cX7_qAsksWord 93 = .ok (.aload_n 0, 1) := dk_42 (dk_at dksX7_qAsksWord_3 9 rfl rfl)
theorem dX7_qAsksWord_94 : decode cX7_qAsksWord 94 = .ok (.aload_n 0, 1) := dk_42 (dk_at dksX7_qAsksWord_3 10 rfl rfl)
theorem dX7_qAsksWord_95 : decode cX7_qAsksWord 95 = .ok (.getfield 239, 3) := dk_180 0 239 (dk_at dksX7_qAsksWord_3 11 rfl rfl)
theorem dX7_qAsksWord_98 : decode cX7_qAsksWord 98 = .ok (.invokevirtual 348, 3) := dk_182 1 92 (dk_at dksX7_qAsksWord_3 14 rfl rfl)
theorem dX7_qAsksWord_101 : decode cX7_qAsksWord 101 = .ok (.goto 88, 3) := dk_167 0 88 (dk_at dksX7_qAsksWord_3 17 rfl rfl)
theorem dX7_qAsksWord_104 : decode cX7_qAsksWord 104 = .ok (.aload_n 0, 1) := dk_42 (dk_at dksX7_qAsksWord_3 20 rfl rfl)
theorem dX7_qAsksWord_105 : decode cX7_qAsksWord 105 = .ok (.aload_n 0, 1) := dk_42 (dk_at dksX7_qAsksWord_3 21 rfl rfl)
theorem dX7_qAsksWord_106 : decode cX7_qAsksWord 106 = .ok (.getfield 242, 3) := dk_180 0 242 (dk_at dksX7_qAsksWord_4 0 rfl rfl)
theorem dX7_qAsksWord_109 : decode cX7_qAsksWord 109 = .ok (.invokevirtual 348, 3) := dk_182 1 92 (dk_at dksX7_qAsksWord_4 3 rfl rfl)
theorem dX7_qAsksWord_112 : decode cX7_qAsksWord 112 = .ok (.goto 77, 3) := dk_167 0 77 (dk_at dksX7_qAsksWord_4 6 rfl rfl)
theorem dX7_qAsksWord_115 : decode cX7_qAsksWord 115 = .ok (.aload_n 0, 1) := dk_42 (dk_at dksX7_qAsksWord_4 9 rfl rfl)
theorem dX7_qAsksWord_116 : decode cX7_qAsksWord 116 = .ok (.aload_n 0, 1) := dk_42 (dk_at dksX7_qAsksWord_4 10 rfl rfl)
theorem dX7_qAsksWord_117 : decode cX7_qAsksWord 117 = .ok (.getfield 245, 3) := dk_180 0 245 (dk_at dksX7_qAsksWord_4 11 rfl rfl)
theorem dX7_qAsksWord_120 : decode cX7_qAsksWord 120 = .ok (.invokevirtual 348, 3) := dk_182 1 92 (dk_at dksX7_qAsksWord_4 14 rfl rfl)
theorem dX7_qAsksWord_123 : decode cX7_qAsksWord 123 = .ok (.goto 66, 3) := dk_167 0 66 (dk_at dksX7_qAsksWord_4 17 rfl rfl)
theorem dX7_qAsksWord_126 : decode cX7_qAsksWord 126 = .ok (.aload_n 0, 1) := dk_42 (dk_at dksX7_qAsksWord_4 20 rfl rfl)
theorem dX7_qAsksWord_127 : decode cX7_qAsksWord 127 = .ok (.aload_n 0, 1) := dk_42 (dk_at dksX7_qAsksWord_4 21 rfl rfl)
theorem dX7_qAsksWord_128 : decode cX7_qAsksWord 128 = .ok (.getfield 248, 3) := dk_180 0 248 (dk_at dksX7_qAsksWord_5 0 rfl rfl)
theorem dX7_qAsksWord_131 : decode cX7_qAsksWord 131 = .ok (.invokevirtual 348, 3) := dk_182 1 92 (dk_at dksX7_qAsksWord_5 3 rfl rfl)
theorem dX7_qAsksWord_134 : decode cX7_qAsksWord 134 = .ok (.goto 55, 3) := dk_167 0 55 (dk_at dksX7_qAsksWord_5 6 rfl rfl)
theorem dX7_qAsksWord_137 : decode cX7_qAsksWord 137 = .ok (.aload_n 0, 1) := dk_42 (dk_at dksX7_qAsksWord_5 9 rfl rfl)
theorem dX7_qAsksWord_138 : decode cX7_qAsksWord 138 = .ok (.aload_n 0, 1) := dk_42 (dk_at dksX7_qAsksWord_5 10 rfl rfl)
theorem dX7_qAsksWord_139 : decode cX7_qAsksWord 139 = .ok (.getfield 251, 3) := dk_180 0 251 (dk_at dksX7_qAsksWord_5 11 rfl rfl)
theorem dX7_qAsksWord_142 : decode cX7_qAsksWord 142 = .ok (.invokevirtual 348, 3) := dk_182 1 92 (dk_at dksX7_qAsksWord_5 14 rfl rfl)
theorem dX7_qAsksWord_145 : decode cX7_qAsksWord 145 = .ok (.goto 44, 3) := dk_167 0 44 (dk_at dksX7_qAsksWord_5 17 rfl rfl)
theorem dX7_qAsksWord_148 : decode cX7_qAsksWord 148 = .ok (.aload_n 0, 1) := dk_42 (dk_at dksX7_qAsksWord_5 20 rfl rfl)
theorem dX7_qAsksWord_149 : decode cX7_qAsksWord 149 = .ok (.aload_n 0, 1) := dk_42 (dk_at dksX7_qAsksWord_5 21 rfl rfl)
theorem dX7_qAsksWord_150 : decode cX7_qAsksWord 150 = .ok (.getfield 254, 3) := dk_180 0 254 (dk_at dksX7_qAsksWord_6 0 rfl rfl)
theorem dX7_qAsksWord_153 : decode cX7_qAsksWord 153 = .ok (.invokevirtual 348, 3) := dk_182 1 92 (dk_at dksX7_qAsksWord_6 3 rfl rfl)
theorem dX7_qAsksWord_156 : decode cX7_qAsksWord 156 = .ok (.goto 33, 3) := dk_167 0 33 (dk_at dksX7_qAsksWord_6 6 rfl rfl)
theorem dX7_qAsksWord_159 : decode cX7_qAsksWord 159 = .ok (.aload_n 0, 1) := dk_42 (dk_at dksX7_qAsksWord_6 9 rfl rfl)
theorem dX7_qAsksWord_160 : decode cX7_qAsksWord 160 = .ok (.aload_n 0, 1) := dk_42 (dk_at dksX7_qAsksWord_6 10 rfl rfl)
theorem dX7_qAsksWord_161 : decode cX7_qAsksWord 161 = .ok (.getfield 257, 3) := dk_180 1 1 (dk_at dksX7_qAsksWord_6 11 rfl rfl)
theorem dX7_qAsksWord_164 : decode cX7_qAsksWord 164 = .ok (.invokevirtual 348, 3) := dk_182 1 92 (dk_at dksX7_qAsksWord_6 14 rfl rfl)
theorem dX7_qAsksWord_167 : decode cX7_qAsksWord 167 = .ok (.goto 22, 3) := dk_167 0 22 (dk_at dksX7_qAsksWord_6 17 rfl rfl)
theorem dX7_qAsksWord_170 : decode cX7_qAsksWord 170 = .ok (.aload_n 0, 1) := dk_42 (dk_at dksX7_qAsksWord_6 20 rfl rfl)
theorem dX7_qAsksWord_171 : decode cX7_qAsksWord 171 = .ok (.aload_n 0, 1) := dk_42 (dk_at dksX7_qAsksWord_6 21 rfl rfl)
theorem dX7_qAsksWord_172 : decode cX7_qAsksWord 172 = .ok (.getfield 260, 3) := dk_180 1 4 (dk_at dksX7_qAsksWord_7 0 rfl rfl)
theorem dX7_qAsksWord_175 : decode cX7_qAsksWord 175 = .ok (.invokevirtual 348, 3) := dk_182 1 92 (dk_at dksX7_qAsksWord_7 3 rfl rfl)
theorem dX7_qAsksWord_178 : decode cX7_qAsksWord 178 = .ok (.goto 11, 3) := dk_167 0 11 (dk_at dksX7_qAsksWord_7 6 rfl rfl)
theorem dX7_qAsksWord_181 : decode cX7_qAsksWord 181 = .ok (.aload_n 0, 1) := dk_42 (dk_at dksX7_qAsksWord_7 9 rfl rfl)
theorem dX7_qAsksWord_182 : decode cX7_qAsksWord 182 = .ok (.aload_n 0, 1) := dk_42 (dk_at dksX7_qAsksWord_7 10 rfl rfl)
theorem dX7_qAsksWord_183 : decode cX7_qAsksWord 183 = .ok (.getfield 236, 3) := dk_180 0 236 (dk_at dksX7_qAsksWord_7 11 rfl rfl)
theorem dX7_qAsksWord_186 : decode cX7_qAsksWord 186 = .ok (.invokevirtual 348, 3) := dk_182 1 92 (dk_at dksX7_qAsksWord_7 14 rfl rfl)
theorem dX7_qAsksWord_189 : decode cX7_qAsksWord 189 = .ok (.return_, 1) := dk_177 (dk_at dksX7_qAsksWord_7 17 rfl rfl)
abbrev cX7_qCode : ByteArray := prog_25_method_116_code
def yX7_qCode : MethodName := ⟨RX7, "qCode", "(I)V"⟩
def dkwX7_qCode_0 : List UInt8 := [42, 180, 1, 7, 42, 180, 1, 123, 27, 79, 42, 89, 180, 1, 123, 4, 96, 181, 1, 123, 177]
abbrev dktX7_qCode_0 : List UInt8 := dkwX7_qCode_0 ++ []
theorem dksX7_qCode_0 : cX7_qCode.data.toList.drop 0 = dktX7_qCode_0 := by decide +kernel
theorem dX7_qCode_0 : decode cX7_qCode 0 = .ok (.aload_n 0, 1) := dk_42 (dk_at dksX7_qCode_0 0 rfl rfl)
theorem dX7_qCode_1 : decode cX7_qCode 1 = .ok (.getfield 263, 3) := dk_180 1 7 (dk_at dksX7_qCode_0 1 rfl rfl)
theorem dX7_qCode_4 : decode cX7_qCode 4 = .ok (.aload_n 0, 1) := dk_42 (dk_at dksX7_qCode_0 4 rfl rfl)
theorem dX7_qCode_5 : decode cX7_qCode 5 = .ok (.getfield 379, 3) := dk_180 1 123 (dk_at dksX7_qCode_0 5 rfl rfl)
theorem dX7_qCode_8 : decode cX7_qCode 8 = .ok (.iload_n 1, 1) := dk_27 (dk_at dksX7_qCode_0 8 rfl rfl)
theorem dX7_qCode_9 : decode cX7_qCode 9 = .ok (.iastore, 1) := dk_79 (dk_at dksX7_qCode_0 9 rfl rfl)
theorem dX7_qCode_10 : decode cX7_qCode 10 = .ok (.aload_n 0, 1) := dk_42 (dk_at dksX7_qCode_0 10 rfl rfl)
theorem dX7_qCode_11 : decode cX7_qCode 11 = .ok (.dup, 1) := dk_89 (dk_at dksX7_qCode_0 11 rfl rfl)
theorem dX7_qCode_12 : decode cX7_qCode 12 = .ok (.getfield 379, 3) := dk_180 1 123 (dk_at dksX7_qCode_0 12 rfl rfl)
theorem dX7_qCode_15 : decode cX7_qCode 15 = .ok (.iconst 1, 1) := dk_4 (dk_at dksX7_qCode_0 15 rfl rfl)
theorem dX7_qCode_16 : decode cX7_qCode 16 = .ok (.iadd, 1) := dk_96 (dk_at dksX7_qCode_0 16 rfl rfl)
theorem dX7_qCode_17 : decode cX7_qCode 17 = .ok (.putfield 379, 3) := dk_181 1 123 (dk_at dksX7_qCode_0 17 rfl rfl)
theorem dX7_qCode_20 : decode cX7_qCode 20 = .ok (.return_, 1) := dk_177 (dk_at dksX7_qCode_0 20 rfl rfl)
abbrev cX7_qEndsPart : ByteArray := prog_25_method_126_code
def yX7_qEndsPart : MethodName := ⟨RX7, "qEndsPart", "()V"⟩
def dkwX7_qEndsPart_2 : List UInt8 := [182, 2, 173, 167, 255, 208, 177]
abbrev dktX7_qEndsPart_2 : List UInt8 := dkwX7_qEndsPart_2 ++ []
def dkwX7_qEndsPart_1 : List UInt8 := [180, 1, 126, 4, 100, 46, 16, 60, 161, 0, 20, 42, 89, 180, 1, 129, 4, 100, 181, 1, 129, 42]
abbrev dktX7_qEndsPart_1 : List UInt8 := dkwX7_qEndsPart_1 ++ dktX7_qEndsPart_2
def dkwX7_qEndsPart_0 : List UInt8 := [42, 180, 1, 22, 154, 0, 47, 42, 180, 1, 126, 42, 180, 1, 132, 164, 0, 36, 42, 180, 1, 10, 42]
abbrev dktX7_qEndsPart_0 : List UInt8 := dkwX7_qEndsPart_0 ++ dktX7_qEndsPart_1
theorem dksX7_qEndsPart_0 : cX7_qEndsPart.data.toList.drop 0 = dktX7_qEndsPart_0 := by decide +kernel
theorem dksX7_qEndsPart_1 : cX7_qEndsPart.data.toList.drop 23 = dktX7_qEndsPart_1 := dk_seg dksX7_qEndsPart_0 23 rfl rfl
theorem dksX7_qEndsPart_2 : cX7_qEndsPart.data.toList.drop 45 = dktX7_qEndsPart_2 := dk_seg dksX7_qEndsPart_1 22 rfl rfl
theorem dX7_qEndsPart_0 : decode cX7_qEndsPart 0 = .ok (.aload_n 0, 1) := dk_42 (dk_at dksX7_qEndsPart_0 0 rfl rfl)
theorem dX7_qEndsPart_1 : decode cX7_qEndsPart 1 = .ok (.getfield 278, 3) := dk_180 1 22 (dk_at dksX7_qEndsPart_0 1 rfl rfl)
theorem dX7_qEndsPart_4 : decode cX7_qEndsPart 4 = .ok (.ifCond .ne 47, 3) := dk_154 0 47 (dk_at dksX7_qEndsPart_0 4 rfl rfl)
theorem dX7_qEndsPart_7 : decode cX7_qEndsPart 7 = .ok (.aload_n 0, 1) := dk_42 (dk_at dksX7_qEndsPart_0 7 rfl rfl)
theorem dX7_qEndsPart_8 : decode cX7_qEndsPart 8 = .ok (.getfield 382, 3) := dk_180 1 126 (dk_at dksX7_qEndsPart_0 8 rfl rfl)
theorem dX7_qEndsPart_11 : decode cX7_qEndsPart 11 = .ok (.aload_n 0, 1) := dk_42 (dk_at dksX7_qEndsPart_0 11 rfl rfl)
theorem dX7_qEndsPart_12 : decode cX7_qEndsPart 12 = .ok (.getfield 388, 3) := dk_180 1 132 (dk_at dksX7_qEndsPart_0 12 rfl rfl)
theorem dX7_qEndsPart_15 : decode cX7_qEndsPart 15 = .ok (.if_icmp .le 36, 3) := dk_164 0 36 (dk_at dksX7_qEndsPart_0 15 rfl rfl)
theorem dX7_qEndsPart_18 : decode cX7_qEndsPart 18 = .ok (.aload_n 0, 1) := dk_42 (dk_at dksX7_qEndsPart_0 18 rfl rfl)
theorem dX7_qEndsPart_19 : decode cX7_qEndsPart 19 = .ok (.getfield 266, 3) := dk_180 1 10 (dk_at dksX7_qEndsPart_0 19 rfl rfl)
theorem dX7_qEndsPart_22 : decode cX7_qEndsPart 22 = .ok (.aload_n 0, 1) := dk_42 (dk_at dksX7_qEndsPart_0 22 rfl rfl)
theorem dX7_qEndsPart_23 : decode cX7_qEndsPart 23 = .ok (.getfield 382, 3) := dk_180 1 126 (dk_at dksX7_qEndsPart_1 0 rfl rfl)
theorem dX7_qEndsPart_26 : decode cX7_qEndsPart 26 = .ok (.iconst 1, 1) := dk_4 (dk_at dksX7_qEndsPart_1 3 rfl rfl)
theorem dX7_qEndsPart_27 : decode cX7_qEndsPart 27 = .ok (.isub, 1) := dk_100 (dk_at dksX7_qEndsPart_1 4 rfl rfl)
theorem dX7_qEndsPart_28 : decode cX7_qEndsPart 28 = .ok (.iaload, 1) := dk_46 (dk_at dksX7_qEndsPart_1 5 rfl rfl)
theorem dX7_qEndsPart_29 : decode cX7_qEndsPart 29 = .ok (.bipush 60, 2) := dk_16 60 (dk_at dksX7_qEndsPart_1 6 rfl rfl)
theorem dX7_qEndsPart_31 : decode cX7_qEndsPart 31 = .ok (.if_icmp .lt 20, 3) := dk_161 0 20 (dk_at dksX7_qEndsPart_1 8 rfl rfl)
theorem dX7_qEndsPart_34 : decode cX7_qEndsPart 34 = .ok (.aload_n 0, 1) := dk_42 (dk_at dksX7_qEndsPart_1 11 rfl rfl)
theorem dX7_qEndsPart_35 : decode cX7_qEndsPart 35 = .ok (.dup, 1) := dk_89 (dk_at dksX7_qEndsPart_1 12 rfl rfl)
theorem dX7_qEndsPart_36 : decode cX7_qEndsPart 36 = .ok (.getfield 385, 3) := dk_180 1 129 (dk_at dksX7_qEndsPart_1 13 rfl rfl)
theorem dX7_qEndsPart_39 : decode cX7_qEndsPart 39 = .ok (.iconst 1, 1) := dk_4 (dk_at dksX7_qEndsPart_1 16 rfl rfl)
theorem dX7_qEndsPart_40 : decode cX7_qEndsPart 40 = .ok (.isub, 1) := dk_100 (dk_at dksX7_qEndsPart_1 17 rfl rfl)
theorem dX7_qEndsPart_41 : decode cX7_qEndsPart 41 = .ok (.putfield 385, 3) := dk_181 1 129 (dk_at dksX7_qEndsPart_1 18 rfl rfl)
theorem dX7_qEndsPart_44 : decode cX7_qEndsPart 44 = .ok (.aload_n 0, 1) := dk_42 (dk_at dksX7_qEndsPart_1 21 rfl rfl)
theorem dX7_qEndsPart_45 : decode cX7_qEndsPart 45 = .ok (.invokevirtual 685, 3) := dk_182 2 173 (dk_at dksX7_qEndsPart_2 0 rfl rfl)
theorem dX7_qEndsPart_48 : decode cX7_qEndsPart 48 = .ok (.goto (-48), 3) := dk_167 255 208 (dk_at dksX7_qEndsPart_2 3 rfl rfl)
theorem dX7_qEndsPart_51 : decode cX7_qEndsPart 51 = .ok (.return_, 1) := dk_177 (dk_at dksX7_qEndsPart_2 6 rfl rfl)
abbrev cX7_qDrops : ByteArray := prog_25_method_119_code
def yX7_qDrops : MethodName := ⟨RX7, "qDrops", "()V"⟩
def dkwX7_qDrops_0 : List UInt8 := [42, 89, 180, 1, 126, 4, 100, 181, 1, 126, 42, 42, 180, 1, 10, 42, 180, 1, 126, 46, 182, 2, 167, 177]
abbrev dktX7_qDrops_0 : List UInt8 := dkwX7_qDrops_0 ++ []
theorem dksX7_qDrops_0 : cX7_qDrops.data.toList.drop 0 = dktX7_qDrops_0 := by decide +kernel
theorem dX7_qDrops_0 : decode cX7_qDrops 0 = .ok (.aload_n 0, 1) := dk_42 (dk_at dksX7_qDrops_0 0 rfl rfl)
theorem dX7_qDrops_1 : decode cX7_qDrops 1 = .ok (.dup, 1) := dk_89 (dk_at dksX7_qDrops_0 1 rfl rfl)
theorem dX7_qDrops_2 : decode cX7_qDrops 2 = .ok (.getfield 382, 3) := dk_180 1 126 (dk_at dksX7_qDrops_0 2 rfl rfl)
theorem dX7_qDrops_5 : decode cX7_qDrops 5 = .ok (.iconst 1, 1) := dk_4 (dk_at dksX7_qDrops_0 5 rfl rfl)
theorem dX7_qDrops_6 : decode cX7_qDrops 6 = .ok (.isub, 1) := dk_100 (dk_at dksX7_qDrops_0 6 rfl rfl)
theorem dX7_qDrops_7 : decode cX7_qDrops 7 = .ok (.putfield 382, 3) := dk_181 1 126 (dk_at dksX7_qDrops_0 7 rfl rfl)
theorem dX7_qDrops_10 : decode cX7_qDrops 10 = .ok (.aload_n 0, 1) := dk_42 (dk_at dksX7_qDrops_0 10 rfl rfl)
theorem dX7_qDrops_11 : decode cX7_qDrops 11 = .ok (.aload_n 0, 1) := dk_42 (dk_at dksX7_qDrops_0 11 rfl rfl)
theorem dX7_qDrops_12 : decode cX7_qDrops 12 = .ok (.getfield 266, 3) := dk_180 1 10 (dk_at dksX7_qDrops_0 12 rfl rfl)
theorem dX7_qDrops_15 : decode cX7_qDrops 15 = .ok (.aload_n 0, 1) := dk_42 (dk_at dksX7_qDrops_0 15 rfl rfl)
theorem dX7_qDrops_16 : decode cX7_qDrops 16 = .ok (.getfield 382, 3) := dk_180 1 126 (dk_at dksX7_qDrops_0 16 rfl rfl)
theorem dX7_qDrops_19 : decode cX7_qDrops 19 = .ok (.iaload, 1) := dk_46 (dk_at dksX7_qDrops_0 19 rfl rfl)
theorem dX7_qDrops_20 : decode cX7_qDrops 20 = .ok (.invokevirtual 679, 3) := dk_182 2 167 (dk_at dksX7_qDrops_0 20 rfl rfl)
theorem dX7_qDrops_23 : decode cX7_qDrops 23 = .ok (.return_, 1) := dk_177 (dk_at dksX7_qDrops_0 23 rfl rfl)
abbrev cX7_qGoesOn : ByteArray := prog_25_method_128_code
def yX7_qGoesOn : MethodName := ⟨RX7, "qGoesOn", "()Z"⟩
def dkwX7_qGoesOn_16 : List UInt8 := [154, 0, 12, 42, 4, 42, 180, 1, 28, 182, 1, 52, 3, 172]
abbrev dktX7_qGoesOn_16 : List UInt8 := dkwX7_qGoesOn_16 ++ []
def dkwX7_qGoesOn_15 : List UInt8 := [180, 1, 126, 4, 100, 92, 46, 5, 96, 79, 4, 172, 42, 182, 2, 194, 2, 159, 0, 19, 42, 180, 1, 22]
abbrev dktX7_qGoesOn_15 : List UInt8 := dkwX7_qGoesOn_15 ++ dktX7_qGoesOn_16
def dkwX7_qGoesOn_14 : List UInt8 := [16, 44, 182, 1, 100, 42, 180, 1, 22, 153, 0, 5, 3, 172, 42, 182, 2, 197, 42, 180, 1, 10, 42]
abbrev dktX7_qGoesOn_14 : List UInt8 := dkwX7_qGoesOn_14 ++ dktX7_qGoesOn_15
def dkwX7_qGoesOn_13 : List UInt8 := [181, 1, 126, 4, 172, 42, 182, 2, 194, 16, 21, 159, 0, 12, 42, 182, 2, 194, 16, 22, 160, 0, 39, 42]
abbrev dktX7_qGoesOn_13 : List UInt8 := dkwX7_qGoesOn_13 ++ dktX7_qGoesOn_14
def dkwX7_qGoesOn_12 : List UInt8 := [182, 2, 173, 167, 255, 220, 42, 180, 1, 10, 42, 180, 1, 126, 27, 79, 42, 89, 180, 1, 126, 4, 96]
abbrev dktX7_qGoesOn_12 : List UInt8 := dkwX7_qGoesOn_12 ++ dktX7_qGoesOn_13
def dkwX7_qGoesOn_11 : List UInt8 := [182, 2, 200, 154, 0, 19, 42, 4, 182, 2, 200, 154, 0, 11, 42, 5, 182, 2, 200, 153, 0, 10, 42]
abbrev dktX7_qGoesOn_11 : List UInt8 := dkwX7_qGoesOn_11 ++ dktX7_qGoesOn_12
def dkwX7_qGoesOn_10 : List UInt8 := [100, 46, 16, 43, 160, 0, 7, 4, 167, 0, 4, 5, 60, 42, 6, 182, 2, 200, 154, 0, 27, 42, 7]
abbrev dktX7_qGoesOn_10 : List UInt8 := dkwX7_qGoesOn_10 ++ dktX7_qGoesOn_11
def dkwX7_qGoesOn_9 : List UInt8 := [182, 1, 56, 154, 0, 12, 42, 16, 45, 182, 1, 56, 153, 0, 86, 42, 180, 0, 7, 42, 180, 1, 28, 4]
abbrev dktX7_qGoesOn_9 : List UInt8 := dkwX7_qGoesOn_9 ++ dktX7_qGoesOn_10
def dkwX7_qGoesOn_8 : List UInt8 := [180, 1, 10, 42, 180, 1, 126, 27, 79, 42, 89, 180, 1, 126, 4, 96, 181, 1, 126, 4, 172, 42, 16, 43]
abbrev dktX7_qGoesOn_8 : List UInt8 := dkwX7_qGoesOn_8 ++ dktX7_qGoesOn_9
def dkwX7_qGoesOn_7 : List UInt8 := [182, 2, 200, 154, 0, 11, 42, 7, 182, 2, 200, 153, 0, 10, 42, 182, 2, 173, 167, 255, 236, 42]
abbrev dktX7_qGoesOn_7 : List UInt8 := dkwX7_qGoesOn_7 ++ dktX7_qGoesOn_8
def dkwX7_qGoesOn_6 : List UInt8 := [42, 180, 0, 7, 42, 180, 1, 28, 4, 100, 46, 16, 42, 160, 0, 7, 6, 167, 0, 4, 7, 60, 42, 6]
abbrev dktX7_qGoesOn_6 : List UInt8 := dkwX7_qGoesOn_6 ++ dktX7_qGoesOn_7
def dkwX7_qGoesOn_5 : List UInt8 := [182, 2, 191, 167, 255, 137, 42, 16, 42, 182, 1, 56, 154, 0, 12, 42, 16, 47, 182, 1, 56, 153, 0, 70]
abbrev dktX7_qGoesOn_5 : List UInt8 := dkwX7_qGoesOn_5 ++ dktX7_qGoesOn_6
def dkwX7_qGoesOn_4 : List UInt8 := [180, 1, 10, 42, 180, 1, 126, 46, 16, 23, 160, 0, 7, 8, 167, 0, 5, 16, 6, 182, 2, 167, 42]
abbrev dktX7_qGoesOn_4 : List UInt8 := dkwX7_qGoesOn_4 ++ dktX7_qGoesOn_5
def dkwX7_qGoesOn_3 : List UInt8 := [180, 1, 129, 4, 100, 181, 1, 129, 42, 180, 1, 10, 42, 180, 1, 126, 46, 16, 20, 159, 0, 27, 42, 42]
abbrev dktX7_qGoesOn_3 : List UInt8 := dkwX7_qGoesOn_3 ++ dktX7_qGoesOn_4
def dkwX7_qGoesOn_2 : List UInt8 := [180, 1, 28, 4, 96, 181, 1, 28, 42, 182, 2, 197, 42, 89, 180, 1, 126, 4, 100, 181, 1, 126, 42, 89]
abbrev dktX7_qGoesOn_2 : List UInt8 := dkwX7_qGoesOn_2 ++ dktX7_qGoesOn_3
def dkwX7_qGoesOn_1 : List UInt8 := [159, 0, 21, 42, 182, 2, 194, 16, 23, 159, 0, 12, 42, 182, 2, 194, 16, 24, 160, 0, 82, 42, 89]
abbrev dktX7_qGoesOn_1 : List UInt8 := dkwX7_qGoesOn_1 ++ dktX7_qGoesOn_2
def dkwX7_qGoesOn_0 : List UInt8 := [42, 180, 1, 22, 154, 0, 118, 42, 182, 1, 34, 16, 41, 160, 0, 109, 42, 182, 2, 194, 16, 20]
abbrev dktX7_qGoesOn_0 : List UInt8 := dkwX7_qGoesOn_0 ++ dktX7_qGoesOn_1
theorem dksX7_qGoesOn_0 : cX7_qGoesOn.data.toList.drop 0 = dktX7_qGoesOn_0 := by decide +kernel
theorem dksX7_qGoesOn_1 : cX7_qGoesOn.data.toList.drop 22 = dktX7_qGoesOn_1 := dk_seg dksX7_qGoesOn_0 22 rfl rfl
theorem dksX7_qGoesOn_2 : cX7_qGoesOn.data.toList.drop 45 = dktX7_qGoesOn_2 := dk_seg dksX7_qGoesOn_1 23 rfl rfl
theorem dksX7_qGoesOn_3 : cX7_qGoesOn.data.toList.drop 69 = dktX7_qGoesOn_3 := dk_seg dksX7_qGoesOn_2 24 rfl rfl
theorem dksX7_qGoesOn_4 : cX7_qGoesOn.data.toList.drop 93 = dktX7_qGoesOn_4 := dk_seg dksX7_qGoesOn_3 24 rfl rfl
theorem dksX7_qGoesOn_5 : cX7_qGoesOn.data.toList.drop 116 = dktX7_qGoesOn_5 := dk_seg dksX7_qGoesOn_4 23 rfl rfl
theorem dksX7_qGoesOn_6 : cX7_qGoesOn.data.toList.drop 140 = dktX7_qGoesOn_6 := dk_seg dksX7_qGoesOn_5 24 rfl rfl
theorem dksX7_qGoesOn_7 : cX7_qGoesOn.data.toList.drop 164 = dktX7_qGoesOn_7 := dk_seg dksX7_qGoesOn_6 24 rfl rfl
theorem dksX7_qGoesOn_8 : cX7_qGoesOn.data.toList.drop 186 = dktX7_qGoesOn_8 := dk_seg dksX7_qGoesOn_7 22 rfl rfl
theorem dksX7_qGoesOn_9 : cX7_qGoesOn.data.toList.drop 210 = dktX7_qGoesOn_9 := dk_seg dksX7_qGoesOn_8 24 rfl rfl
theorem dksX7_qGoesOn_10 : cX7_qGoesOn.data.toList.drop 234 = dktX7_qGoesOn_10 := dk_seg dksX7_qGoesOn_9 24 rfl rfl
theorem dksX7_qGoesOn_11 : cX7_qGoesOn.data.toList.drop 257 = dktX7_qGoesOn_11 := dk_seg dksX7_qGoesOn_10 23 rfl rfl
theorem dksX7_qGoesOn_12 : cX7_qGoesOn.data.toList.drop 280 = dktX7_qGoesOn_12 := dk_seg dksX7_qGoesOn_11 23 rfl rfl
theorem dksX7_qGoesOn_13 : cX7_qGoesOn.data.toList.drop 303 = dktX7_qGoesOn_13 := dk_seg dksX7_qGoesOn_12 23 rfl rfl
theorem dksX7_qGoesOn_14 : cX7_qGoesOn.data.toList.drop 327 = dktX7_qGoesOn_14 := dk_seg dksX7_qGoesOn_13 24 rfl rfl
theorem dksX7_qGoesOn_15 : cX7_qGoesOn.data.toList.drop 350 = dktX7_qGoesOn_15 := dk_seg dksX7_qGoesOn_14 23 rfl rfl
theorem dksX7_qGoesOn_16 : cX7_qGoesOn.data.toList.drop 374 = dktX7_qGoesOn_16 := dk_seg dksX7_qGoesOn_15 24 rfl rfl
theorem dX7_qGoesOn_0 : decode cX7_qGoesOn 0 = .ok (.aload_n 0, 1) := dk_42 (dk_at dksX7_qGoesOn_0 0 rfl rfl)
theorem dX7_qGoesOn_1 : decode cX7_qGoesOn 1 = .ok (.getfield 278, 3) := dk_180 1 22 (dk_at dksX7_qGoesOn_0 1 rfl rfl)
theorem dX7_qGoesOn_4 : decode cX7_qGoesOn 4 = .ok (.ifCond .ne 118, 3) := dk_154 0 118 (dk_at dksX7_qGoesOn_0 4 rfl rfl)
theorem dX7_qGoesOn_7 : decode cX7_qGoesOn 7 = .ok (.aload_n 0, 1) := dk_42 (dk_at dksX7_qGoesOn_0 7 rfl rfl)
theorem dX7_qGoesOn_8 : decode cX7_qGoesOn 8 = .ok (.invokevirtual 290, 3) := dk_182 1 34 (dk_at dksX7_qGoesOn_0 8 rfl rfl)
theorem dX7_qGoesOn_11 : decode cX7_qGoesOn 11 = .ok (.bipush 41, 2) := dk_16 41 (dk_at dksX7_qGoesOn_0 11 rfl rfl)
theorem dX7_qGoesOn_13 : decode cX7_qGoesOn 13 = .ok (.if_icmp .ne 109, 3) := dk_160 0 109 (dk_at dksX7_qGoesOn_0 13 rfl rfl)
theorem dX7_qGoesOn_16 : decode cX7_qGoesOn 16 = .ok (.aload_n 0, 1) := dk_42 (dk_at dksX7_qGoesOn_0 16 rfl rfl)
theorem dX7_qGoesOn_17 : decode cX7_qGoesOn 17 = .ok (.invokevirtual 706, 3) := dk_182 2 194 (dk_at dksX7_qGoesOn_0 17 rfl rfl)
theorem dX7_qGoesOn_20 : decode cX7_qGoesOn 20 = .ok (.bipush 20, 2) := dk_16 20 (dk_at dksX7_qGoesOn_0 20 rfl rfl)
theorem dX7_qGoesOn_22 : decode cX7_qGoesOn 22 = .ok (.if_icmp .eq 21, 3) := dk_159 0 21 (dk_at dksX7_qGoesOn_1 0 rfl rfl)
theorem dX7_qGoesOn_25 : decode cX7_qGoesOn 25 = .ok (.aload_n 0, 1) := dk_42 (dk_at dksX7_qGoesOn_1 3 rfl rfl)
theorem dX7_qGoesOn_26 : decode cX7_qGoesOn 26 = .ok (.invokevirtual 706, 3) := dk_182 2 194 (dk_at dksX7_qGoesOn_1 4 rfl rfl)
theorem dX7_qGoesOn_29 : decode cX7_qGoesOn 29 = .ok (.bipush 23, 2) := dk_16 23 (dk_at dksX7_qGoesOn_1 7 rfl rfl)
theorem dX7_qGoesOn_31 : decode cX7_qGoesOn 31 = .ok (.if_icmp .eq 12, 3) := dk_159 0 12 (dk_at dksX7_qGoesOn_1 9 rfl rfl)
theorem dX7_qGoesOn_34 : decode cX7_qGoesOn 34 = .ok (.aload_n 0, 1) := dk_42 (dk_at dksX7_qGoesOn_1 12 rfl rfl)
theorem dX7_qGoesOn_35 : decode cX7_qGoesOn 35 = .ok (.invokevirtual 706, 3) := dk_182 2 194 (dk_at dksX7_qGoesOn_1 13 rfl rfl)
theorem dX7_qGoesOn_38 : decode cX7_qGoesOn 38 = .ok (.bipush 24, 2) := dk_16 24 (dk_at dksX7_qGoesOn_1 16 rfl rfl)
theorem dX7_qGoesOn_40 : decode cX7_qGoesOn 40 = .ok (.if_icmp .ne 82, 3) := dk_160 0 82 (dk_at dksX7_qGoesOn_1 18 rfl rfl)
theorem dX7_qGoesOn_43 : decode cX7_qGoesOn 43 = .ok (.aload_n 0, 1) := dk_42 (dk_at dksX7_qGoesOn_1 21 rfl rfl)
theorem dX7_qGoesOn_44 : decode cX7_qGoesOn 44 = .ok (.dup, 1) := dk_89 (dk_at dksX7_qGoesOn_1 22 rfl rfl)
theorem dX7_qGoesOn_45 : decode cX7_qGoesOn 45 = .ok (.getfield 284, 3) := dk_180 1 28 (dk_at dksX7_qGoesOn_2 0 rfl rfl)
theorem dX7_qGoesOn_48 : decode cX7_qGoesOn 48 = .ok (.iconst 1, 1) := dk_4 (dk_at dksX7_qGoesOn_2 3 rfl rfl)
theorem dX7_qGoesOn_49 : decode cX7_qGoesOn 49 = .ok (.iadd, 1) := dk_96 (dk_at dksX7_qGoesOn_2 4 rfl rfl)
theorem dX7_qGoesOn_50 : decode cX7_qGoesOn 50 = .ok (.putfield 284, 3) := dk_181 1 28 (dk_at dksX7_qGoesOn_2 5 rfl rfl)
theorem dX7_qGoesOn_53 : decode cX7_qGoesOn 53 = .ok (.aload_n 0, 1) := dk_42 (dk_at dksX7_qGoesOn_2 8 rfl rfl)
theorem dX7_qGoesOn_54 : decode cX7_qGoesOn 54 = .ok (.invokevirtual 709, 3) := dk_182 2 197 (dk_at dksX7_qGoesOn_2 9 rfl rfl)
theorem dX7_qGoesOn_57 : decode cX7_qGoesOn 57 = .ok (.aload_n 0, 1) := dk_42 (dk_at dksX7_qGoesOn_2 12 rfl rfl)
theorem dX7_qGoesOn_58 : decode cX7_qGoesOn 58 = .ok (.dup, 1) := dk_89 (dk_at dksX7_qGoesOn_2 13 rfl rfl)
theorem dX7_qGoesOn_59 : decode cX7_qGoesOn 59 = .ok (.getfield 382, 3) := dk_180 1 126 (dk_at dksX7_qGoesOn_2 14 rfl rfl)
theorem dX7_qGoesOn_62 : decode cX7_qGoesOn 62 = .ok (.iconst 1, 1) := dk_4 (dk_at dksX7_qGoesOn_2 17 rfl rfl)
theorem dX7_qGoesOn_63 : decode cX7_qGoesOn 63 = .ok (.isub, 1) := dk_100 (dk_at dksX7_qGoesOn_2 18 rfl rfl)
theorem dX7_qGoesOn_64 : decode cX7_qGoesOn 64 = .ok (.putfield 382, 3) := dk_181 1 126 (dk_at dksX7_qGoesOn_2 19 rfl rfl)
theorem dX7_qGoesOn_67 : decode cX7_qGoesOn 67 = .ok (.aload_n 0, 1) := dk_42 (dk_at dksX7_qGoesOn_2 22 rfl rfl)
theorem dX7_qGoesOn_68 : decode cX7_qGoesOn 68 = .ok (.dup, 1) := dk_89 (dk_at dksX7_qGoesOn_2 23 rfl rfl)
theorem dX7_qGoesOn_69 : decode cX7_qGoesOn 69 = .ok (.getfield 385, 3) := dk_180 1 129 (dk_at dksX7_qGoesOn_3 0 rfl rfl)
theorem dX7_qGoesOn_72 : decode cX7_qGoesOn 72 = .ok (.iconst 1, 1) := dk_4 (dk_at dksX7_qGoesOn_3 3 rfl rfl)
theorem dX7_qGoesOn_73 : decode cX7_qGoesOn 73 = .ok (.isub, 1) := dk_100 (dk_at dksX7_qGoesOn_3 4 rfl rfl)
theorem dX7_qGoesOn_74 : decode cX7_qGoesOn 74 = .ok (.putfield 385, 3) := dk_181 1 129 (dk_at dksX7_qGoesOn_3 5 rfl rfl)
theorem dX7_qGoesOn_77 : decode cX7_qGoesOn 77 = .ok (.aload_n 0, 1) := dk_42 (dk_at dksX7_qGoesOn_3 8 rfl rfl)
theorem dX7_qGoesOn_78 : decode cX7_qGoesOn 78 = .ok (.getfield 266, 3) := dk_180 1 10 (dk_at dksX7_qGoesOn_3 9 rfl rfl)
theorem dX7_qGoesOn_81 : decode cX7_qGoesOn 81 = .ok (.aload_n 0, 1) := dk_42 (dk_at dksX7_qGoesOn_3 12 rfl rfl)
theorem dX7_qGoesOn_82 : decode cX7_qGoesOn 82 = .ok (.getfield 382, 3) := dk_180 1 126 (dk_at dksX7_qGoesOn_3 13 rfl rfl)
theorem dX7_qGoesOn_85 : decode cX7_qGoesOn 85 = .ok (.iaload, 1) := dk_46 (dk_at dksX7_qGoesOn_3 16 rfl rfl)
theorem dX7_qGoesOn_86 : decode cX7_qGoesOn 86 = .ok (.bipush 20, 2) := dk_16 20 (dk_at dksX7_qGoesOn_3 17 rfl rfl)
theorem dX7_qGoesOn_88 : decode cX7_qGoesOn 88 = .ok (.if_icmp .eq 27, 3) := dk_159 0 27 (dk_at dksX7_qGoesOn_3 19 rfl rfl)
theorem dX7_qGoesOn_91 : decode cX7_qGoesOn 91 = .ok (.aload_n 0, 1) := dk_42 (dk_at dksX7_qGoesOn_3 22 rfl rfl)
theorem dX7_qGoesOn_92 : decode cX7_qGoesOn 92 = .ok (.aload_n 0, 1) := dk_42 (dk_at dksX7_qGoesOn_3 23 rfl rfl)
theorem dX7_qGoesOn_93 : decode cX7_qGoesOn 93 = .ok (.getfield 266, 3) := dk_180 1 10 (dk_at dksX7_qGoesOn_4 0 rfl rfl)
theorem dX7_qGoesOn_96 : decode cX7_qGoesOn 96 = .ok (.aload_n 0, 1) := dk_42 (dk_at dksX7_qGoesOn_4 3 rfl rfl)
theorem dX7_qGoesOn_97 : decode cX7_qGoesOn 97 = .ok (.getfield 382, 3) := dk_180 1 126 (dk_at dksX7_qGoesOn_4 4 rfl rfl)
theorem dX7_qGoesOn_100 : decode cX7_qGoesOn 100 = .ok (.iaload, 1) := dk_46 (dk_at dksX7_qGoesOn_4 7 rfl rfl)
theorem dX7_qGoesOn_101 : decode cX7_qGoesOn 101 = .ok (.bipush 23, 2) := dk_16 23 (dk_at dksX7_qGoesOn_4 8 rfl rfl)
theorem dX7_qGoesOn_103 : decode cX7_qGoesOn 103 = .ok (.if_icmp .ne 7, 3) := dk_160 0 7 (dk_at dksX7_qGoesOn_4 10 rfl rfl)
theorem dX7_qGoesOn_106 : decode cX7_qGoesOn 106 = .ok (.iconst 5, 1) := dk_8 (dk_at dksX7_qGoesOn_4 13 rfl rfl)
theorem dX7_qGoesOn_107 : decode cX7_qGoesOn 107 = .ok (.goto 5, 3) := dk_167 0 5 (dk_at dksX7_qGoesOn_4 14 rfl rfl)
theorem dX7_qGoesOn_110 : decode cX7_qGoesOn 110 = .ok (.bipush 6, 2) := dk_16 6 (dk_at dksX7_qGoesOn_4 17 rfl rfl)
theorem dX7_qGoesOn_112 : decode cX7_qGoesOn 112 = .ok (.invokevirtual 679, 3) := dk_182 2 167 (dk_at dksX7_qGoesOn_4 19 rfl rfl)
theorem dX7_qGoesOn_115 : decode cX7_qGoesOn 115 = .ok (.aload_n 0, 1) := dk_42 (dk_at dksX7_qGoesOn_4 22 rfl rfl)
theorem dX7_qGoesOn_116 : decode cX7_qGoesOn 116 = .ok (.invokevirtual 703, 3) := dk_182 2 191 (dk_at dksX7_qGoesOn_5 0 rfl rfl)
theorem dX7_qGoesOn_119 : decode cX7_qGoesOn 119 = .ok (.goto (-119), 3) := dk_167 255 137 (dk_at dksX7_qGoesOn_5 3 rfl rfl)
theorem dX7_qGoesOn_122 : decode cX7_qGoesOn 122 = .ok (.aload_n 0, 1) := dk_42 (dk_at dksX7_qGoesOn_5 6 rfl rfl)
theorem dX7_qGoesOn_123 : decode cX7_qGoesOn 123 = .ok (.bipush 42, 2) := dk_16 42 (dk_at dksX7_qGoesOn_5 7 rfl rfl)
theorem dX7_qGoesOn_125 : decode cX7_qGoesOn 125 = .ok (.invokevirtual 312, 3) := dk_182 1 56 (dk_at dksX7_qGoesOn_5 9 rfl rfl)
theorem dX7_qGoesOn_128 : decode cX7_qGoesOn 128 = .ok (.ifCond .ne 12, 3) := dk_154 0 12 (dk_at dksX7_qGoesOn_5 12 rfl rfl)
theorem dX7_qGoesOn_131 : decode cX7_qGoesOn 131 = .ok (.aload_n 0, 1) := dk_42 (dk_at dksX7_qGoesOn_5 15 rfl rfl)
theorem dX7_qGoesOn_132 : decode cX7_qGoesOn 132 = .ok (.bipush 47, 2) := dk_16 47 (dk_at dksX7_qGoesOn_5 16 rfl rfl)
theorem dX7_qGoesOn_134 : decode cX7_qGoesOn 134 = .ok (.invokevirtual 312, 3) := dk_182 1 56 (dk_at dksX7_qGoesOn_5 18 rfl rfl)
theorem dX7_qGoesOn_137 : decode cX7_qGoesOn 137 = .ok (.ifCond .eq 70, 3) := dk_153 0 70 (dk_at dksX7_qGoesOn_5 21 rfl rfl)
theorem dX7_qGoesOn_140 : decode cX7_qGoesOn 140 = .ok (.aload_n 0, 1) := dk_42 (dk_at dksX7_qGoesOn_6 0 rfl rfl)
theorem dX7_qGoesOn_141 : decode cX7_qGoesOn 141 = .ok (.getfield 7, 3) := dk_180 0 7 (dk_at dksX7_qGoesOn_6 1 rfl rfl)
theorem dX7_qGoesOn_144 : decode cX7_qGoesOn 144 = .ok (.aload_n 0, 1) := dk_42 (dk_at dksX7_qGoesOn_6 4 rfl rfl)
theorem dX7_qGoesOn_145 : decode cX7_qGoesOn 145 = .ok (.getfield 284, 3) := dk_180 1 28 (dk_at dksX7_qGoesOn_6 5 rfl rfl)
theorem dX7_qGoesOn_148 : decode cX7_qGoesOn 148 = .ok (.iconst 1, 1) := dk_4 (dk_at dksX7_qGoesOn_6 8 rfl rfl)
theorem dX7_qGoesOn_149 : decode cX7_qGoesOn 149 = .ok (.isub, 1) := dk_100 (dk_at dksX7_qGoesOn_6 9 rfl rfl)
theorem dX7_qGoesOn_150 : decode cX7_qGoesOn 150 = .ok (.iaload, 1) := dk_46 (dk_at dksX7_qGoesOn_6 10 rfl rfl)
theorem dX7_qGoesOn_151 : decode cX7_qGoesOn 151 = .ok (.bipush 42, 2) := dk_16 42 (dk_at dksX7_qGoesOn_6 11 rfl rfl)
theorem dX7_qGoesOn_153 : decode cX7_qGoesOn 153 = .ok (.if_icmp .ne 7, 3) := dk_160 0 7 (dk_at dksX7_qGoesOn_6 13 rfl rfl)
theorem dX7_qGoesOn_156 : decode cX7_qGoesOn 156 = .ok (.iconst 3, 1) := dk_6 (dk_at dksX7_qGoesOn_6 16 rfl rfl)
theorem dX7_qGoesOn_157 : decode cX7_qGoesOn 157 = .ok (.goto 4, 3) := dk_167 0 4 (dk_at dksX7_qGoesOn_6 17 rfl rfl)
theorem dX7_qGoesOn_160 : decode cX7_qGoesOn 160 = .ok (.iconst 4, 1) := dk_7 (dk_at dksX7_qGoesOn_6 20 rfl rfl)
theorem dX7_qGoesOn_161 : decode cX7_qGoesOn 161 = .ok (.istore_n 1, 1) := dk_60 (dk_at dksX7_qGoesOn_6 21 rfl rfl)
theorem dX7_qGoesOn_162 : decode cX7_qGoesOn 162 = .ok (.aload_n 0, 1) := dk_42 (dk_at dksX7_qGoesOn_6 22 rfl rfl)
theorem dX7_qGoesOn_163 : decode cX7_qGoesOn 163 = .ok (.iconst 3, 1) := dk_6 (dk_at dksX7_qGoesOn_6 23 rfl rfl)
theorem dX7_qGoesOn_164 : decode cX7_qGoesOn 164 = .ok (.invokevirtual 712, 3) := dk_182 2 200 (dk_at dksX7_qGoesOn_7 0 rfl rfl)
theorem dX7_qGoesOn_167 : decode cX7_qGoesOn 167 = .ok (.ifCond .ne 11, 3) := dk_154 0 11 (dk_at dksX7_qGoesOn_7 3 rfl rfl)
theorem dX7_qGoesOn_170 : decode cX7_qGoesOn 170 = .ok (.aload_n 0, 1) := dk_42 (dk_at dksX7_qGoesOn_7 6 rfl rfl)
theorem dX7_qGoesOn_171 : decode cX7_qGoesOn 171 = .ok (.iconst 4, 1) := dk_7 (dk_at dksX7_qGoesOn_7 7 rfl rfl)
theorem dX7_qGoesOn_172 : decode cX7_qGoesOn 172 = .ok (.invokevirtual 712, 3) := dk_182 2 200 (dk_at dksX7_qGoesOn_7 8 rfl rfl)
theorem dX7_qGoesOn_175 : decode cX7_qGoesOn 175 = .ok (.ifCond .eq 10, 3) := dk_153 0 10 (dk_at dksX7_qGoesOn_7 11 rfl rfl)
theorem dX7_qGoesOn_178 : decode cX7_qGoesOn 178 = .ok (.aload_n 0, 1) := dk_42 (dk_at dksX7_qGoesOn_7 14 rfl rfl)
theorem dX7_qGoesOn_179 : decode cX7_qGoesOn 179 = .ok (.invokevirtual 685, 3) := dk_182 2 173 (dk_at dksX7_qGoesOn_7 15 rfl rfl)
theorem dX7_qGoesOn_182 : decode cX7_qGoesOn 182 = .ok (.goto (-20), 3) := dk_167 255 236 (dk_at dksX7_qGoesOn_7 18 rfl rfl)
theorem dX7_qGoesOn_185 : decode cX7_qGoesOn 185 = .ok (.aload_n 0, 1) := dk_42 (dk_at dksX7_qGoesOn_7 21 rfl rfl)
theorem dX7_qGoesOn_186 : decode cX7_qGoesOn 186 = .ok (.getfield 266, 3) := dk_180 1 10 (dk_at dksX7_qGoesOn_8 0 rfl rfl)
theorem dX7_qGoesOn_189 : decode cX7_qGoesOn 189 = .ok (.aload_n 0, 1) := dk_42 (dk_at dksX7_qGoesOn_8 3 rfl rfl)
theorem dX7_qGoesOn_190 : decode cX7_qGoesOn 190 = .ok (.getfield 382, 3) := dk_180 1 126 (dk_at dksX7_qGoesOn_8 4 rfl rfl)
theorem dX7_qGoesOn_193 : decode cX7_qGoesOn 193 = .ok (.iload_n 1, 1) := dk_27 (dk_at dksX7_qGoesOn_8 7 rfl rfl)
theorem dX7_qGoesOn_194 : decode cX7_qGoesOn 194 = .ok (.iastore, 1) := dk_79 (dk_at dksX7_qGoesOn_8 8 rfl rfl)
theorem dX7_qGoesOn_195 : decode cX7_qGoesOn 195 = .ok (.aload_n 0, 1) := dk_42 (dk_at dksX7_qGoesOn_8 9 rfl rfl)
theorem dX7_qGoesOn_196 : decode cX7_qGoesOn 196 = .ok (.dup, 1) := dk_89 (dk_at dksX7_qGoesOn_8 10 rfl rfl)
theorem dX7_qGoesOn_197 : decode cX7_qGoesOn 197 = .ok (.getfield 382, 3) := dk_180 1 126 (dk_at dksX7_qGoesOn_8 11 rfl rfl)
theorem dX7_qGoesOn_200 : decode cX7_qGoesOn 200 = .ok (.iconst 1, 1) := dk_4 (dk_at dksX7_qGoesOn_8 14 rfl rfl)
theorem dX7_qGoesOn_201 : decode cX7_qGoesOn 201 = .ok (.iadd, 1) := dk_96 (dk_at dksX7_qGoesOn_8 15 rfl rfl)
theorem dX7_qGoesOn_202 : decode cX7_qGoesOn 202 = .ok (.putfield 382, 3) := dk_181 1 126 (dk_at dksX7_qGoesOn_8 16 rfl rfl)
theorem dX7_qGoesOn_205 : decode cX7_qGoesOn 205 = .ok (.iconst 1, 1) := dk_4 (dk_at dksX7_qGoesOn_8 19 rfl rfl)
theorem dX7_qGoesOn_206 : decode cX7_qGoesOn 206 = .ok (.ireturn, 1) := dk_172 (dk_at dksX7_qGoesOn_8 20 rfl rfl)
theorem dX7_qGoesOn_207 : decode cX7_qGoesOn 207 = .ok (.aload_n 0, 1) := dk_42 (dk_at dksX7_qGoesOn_8 21 rfl rfl)
theorem dX7_qGoesOn_208 : decode cX7_qGoesOn 208 = .ok (.bipush 43, 2) := dk_16 43 (dk_at dksX7_qGoesOn_8 22 rfl rfl)
theorem dX7_qGoesOn_210 : decode cX7_qGoesOn 210 = .ok (.invokevirtual 312, 3) := dk_182 1 56 (dk_at dksX7_qGoesOn_9 0 rfl rfl)
theorem dX7_qGoesOn_213 : decode cX7_qGoesOn 213 = .ok (.ifCond .ne 12, 3) := dk_154 0 12 (dk_at dksX7_qGoesOn_9 3 rfl rfl)
theorem dX7_qGoesOn_216 : decode cX7_qGoesOn 216 = .ok (.aload_n 0, 1) := dk_42 (dk_at dksX7_qGoesOn_9 6 rfl rfl)
theorem dX7_qGoesOn_217 : decode cX7_qGoesOn 217 = .ok (.bipush 45, 2) := dk_16 45 (dk_at dksX7_qGoesOn_9 7 rfl rfl)
theorem dX7_qGoesOn_219 : decode cX7_qGoesOn 219 = .ok (.invokevirtual 312, 3) := dk_182 1 56 (dk_at dksX7_qGoesOn_9 9 rfl rfl)
theorem dX7_qGoesOn_222 : decode cX7_qGoesOn 222 = .ok (.ifCond .eq 86, 3) := dk_153 0 86 (dk_at dksX7_qGoesOn_9 12 rfl rfl)
theorem dX7_qGoesOn_225 : decode cX7_qGoesOn 225 = .ok (.aload_n 0, 1) := dk_42 (dk_at dksX7_qGoesOn_9 15 rfl rfl)
theorem dX7_qGoesOn_226 : decode cX7_qGoesOn 226 = .ok (.getfield 7, 3) := dk_180 0 7 (dk_at dksX7_qGoesOn_9 16 rfl rfl)
theorem dX7_qGoesOn_229 : decode cX7_qGoesOn 229 = .ok (.aload_n 0, 1) := dk_42 (dk_at dksX7_qGoesOn_9 19 rfl rfl)
theorem dX7_qGoesOn_230 : decode cX7_qGoesOn 230 = .ok (.getfield 284, 3) := dk_180 1 28 (dk_at dksX7_qGoesOn_9 20 rfl rfl)
theorem dX7_qGoesOn_233 : decode cX7_qGoesOn 233 = .ok (.iconst 1, 1) := dk_4 (dk_at dksX7_qGoesOn_9 23 rfl rfl)
theorem dX7_qGoesOn_234 : decode cX7_qGoesOn 234 = .ok (.isub, 1) := dk_100 (dk_at dksX7_qGoesOn_10 0 rfl rfl)
theorem dX7_qGoesOn_235 : decode cX7_qGoesOn 235 = .ok (.iaload, 1) := dk_46 (dk_at dksX7_qGoesOn_10 1 rfl rfl)
theorem dX7_qGoesOn_236 : decode cX7_qGoesOn 236 = .ok (.bipush 43, 2) := dk_16 43 (dk_at dksX7_qGoesOn_10 2 rfl rfl)
theorem dX7_qGoesOn_238 : decode cX7_qGoesOn 238 = .ok (.if_icmp .ne 7, 3) := dk_160 0 7 (dk_at dksX7_qGoesOn_10 4 rfl rfl)
theorem dX7_qGoesOn_241 : decode cX7_qGoesOn 241 = .ok (.iconst 1, 1) := dk_4 (dk_at dksX7_qGoesOn_10 7 rfl rfl)
theorem dX7_qGoesOn_242 : decode cX7_qGoesOn 242 = .ok (.goto 4, 3) := dk_167 0 4 (dk_at dksX7_qGoesOn_10 8 rfl rfl)
theorem dX7_qGoesOn_245 : decode cX7_qGoesOn 245 = .ok (.iconst 2, 1) := dk_5 (dk_at dksX7_qGoesOn_10 11 rfl rfl)
theorem dX7_qGoesOn_246 : decode cX7_qGoesOn 246 = .ok (.istore_n 1, 1) := dk_60 (dk_at dksX7_qGoesOn_10 12 rfl rfl)
theorem dX7_qGoesOn_247 : decode cX7_qGoesOn 247 = .ok (.aload_n 0, 1) := dk_42 (dk_at dksX7_qGoesOn_10 13 rfl rfl)
theorem dX7_qGoesOn_248 : decode cX7_qGoesOn 248 = .ok (.iconst 3, 1) := dk_6 (dk_at dksX7_qGoesOn_10 14 rfl rfl)
theorem dX7_qGoesOn_249 : decode cX7_qGoesOn 249 = .ok (.invokevirtual 712, 3) := dk_182 2 200 (dk_at dksX7_qGoesOn_10 15 rfl rfl)
theorem dX7_qGoesOn_252 : decode cX7_qGoesOn 252 = .ok (.ifCond .ne 27, 3) := dk_154 0 27 (dk_at dksX7_qGoesOn_10 18 rfl rfl)
theorem dX7_qGoesOn_255 : decode cX7_qGoesOn 255 = .ok (.aload_n 0, 1) := dk_42 (dk_at dksX7_qGoesOn_10 21 rfl rfl)
theorem dX7_qGoesOn_256 : decode cX7_qGoesOn 256 = .ok (.iconst 4, 1) := dk_7 (dk_at dksX7_qGoesOn_10 22 rfl rfl)
theorem dX7_qGoesOn_257 : decode cX7_qGoesOn 257 = .ok (.invokevirtual 712, 3) := dk_182 2 200 (dk_at dksX7_qGoesOn_11 0 rfl rfl)
theorem dX7_qGoesOn_260 : decode cX7_qGoesOn 260 = .ok (.ifCond .ne 19, 3) := dk_154 0 19 (dk_at dksX7_qGoesOn_11 3 rfl rfl)
theorem dX7_qGoesOn_263 : decode cX7_qGoesOn 263 = .ok (.aload_n 0, 1) := dk_42 (dk_at dksX7_qGoesOn_11 6 rfl rfl)
theorem dX7_qGoesOn_264 : decode cX7_qGoesOn 264 = .ok (.iconst 1, 1) := dk_4 (dk_at dksX7_qGoesOn_11 7 rfl rfl)
theorem dX7_qGoesOn_265 : decode cX7_qGoesOn 265 = .ok (.invokevirtual 712, 3) := dk_182 2 200 (dk_at dksX7_qGoesOn_11 8 rfl rfl)
theorem dX7_qGoesOn_268 : decode cX7_qGoesOn 268 = .ok (.ifCond .ne 11, 3) := dk_154 0 11 (dk_at dksX7_qGoesOn_11 11 rfl rfl)
theorem dX7_qGoesOn_271 : decode cX7_qGoesOn 271 = .ok (.aload_n 0, 1) := dk_42 (dk_at dksX7_qGoesOn_11 14 rfl rfl)
theorem dX7_qGoesOn_272 : decode cX7_qGoesOn 272 = .ok (.iconst 2, 1) := dk_5 (dk_at dksX7_qGoesOn_11 15 rfl rfl)
theorem dX7_qGoesOn_273 : decode cX7_qGoesOn 273 = .ok (.invokevirtual 712, 3) := dk_182 2 200 (dk_at dksX7_qGoesOn_11 16 rfl rfl)
theorem dX7_qGoesOn_276 : decode cX7_qGoesOn 276 = .ok (.ifCond .eq 10, 3) := dk_153 0 10 (dk_at dksX7_qGoesOn_11 19 rfl rfl)
theorem dX7_qGoesOn_279 : decode cX7_qGoesOn 279 = .ok (.aload_n 0, 1) := dk_42 (dk_at dksX7_qGoesOn_11 22 rfl rfl)
theorem dX7_qGoesOn_280 : decode cX7_qGoesOn 280 = .ok (.invokevirtual 685, 3) := dk_182 2 173 (dk_at dksX7_qGoesOn_12 0 rfl rfl)
theorem dX7_qGoesOn_283 : decode cX7_qGoesOn 283 = .ok (.goto (-36), 3) := dk_167 255 220 (dk_at dksX7_qGoesOn_12 3 rfl rfl)
theorem dX7_qGoesOn_286 : decode cX7_qGoesOn 286 = .ok (.aload_n 0, 1) := dk_42 (dk_at dksX7_qGoesOn_12 6 rfl rfl)
theorem dX7_qGoesOn_287 : decode cX7_qGoesOn 287 = .ok (.getfield 266, 3) := dk_180 1 10 (dk_at dksX7_qGoesOn_12 7 rfl rfl)
theorem dX7_qGoesOn_290 : decode cX7_qGoesOn 290 = .ok (.aload_n 0, 1) := dk_42 (dk_at dksX7_qGoesOn_12 10 rfl rfl)
theorem dX7_qGoesOn_291 : decode cX7_qGoesOn 291 = .ok (.getfield 382, 3) := dk_180 1 126 (dk_at dksX7_qGoesOn_12 11 rfl rfl)
theorem dX7_qGoesOn_294 : decode cX7_qGoesOn 294 = .ok (.iload_n 1, 1) := dk_27 (dk_at dksX7_qGoesOn_12 14 rfl rfl)
theorem dX7_qGoesOn_295 : decode cX7_qGoesOn 295 = .ok (.iastore, 1) := dk_79 (dk_at dksX7_qGoesOn_12 15 rfl rfl)
theorem dX7_qGoesOn_296 : decode cX7_qGoesOn 296 = .ok (.aload_n 0, 1) := dk_42 (dk_at dksX7_qGoesOn_12 16 rfl rfl)
theorem dX7_qGoesOn_297 : decode cX7_qGoesOn 297 = .ok (.dup, 1) := dk_89 (dk_at dksX7_qGoesOn_12 17 rfl rfl)
theorem dX7_qGoesOn_298 : decode cX7_qGoesOn 298 = .ok (.getfield 382, 3) := dk_180 1 126 (dk_at dksX7_qGoesOn_12 18 rfl rfl)
theorem dX7_qGoesOn_301 : decode cX7_qGoesOn 301 = .ok (.iconst 1, 1) := dk_4 (dk_at dksX7_qGoesOn_12 21 rfl rfl)
theorem dX7_qGoesOn_302 : decode cX7_qGoesOn 302 = .ok (.iadd, 1) := dk_96 (dk_at dksX7_qGoesOn_12 22 rfl rfl)
theorem dX7_qGoesOn_303 : decode cX7_qGoesOn 303 = .ok (.putfield 382, 3) := dk_181 1 126 (dk_at dksX7_qGoesOn_13 0 rfl rfl)
theorem dX7_qGoesOn_306 : decode cX7_qGoesOn 306 = .ok (.iconst 1, 1) := dk_4 (dk_at dksX7_qGoesOn_13 3 rfl rfl)
theorem dX7_qGoesOn_307 : decode cX7_qGoesOn 307 = .ok (.ireturn, 1) := dk_172 (dk_at dksX7_qGoesOn_13 4 rfl rfl)
theorem dX7_qGoesOn_308 : decode cX7_qGoesOn 308 = .ok (.aload_n 0, 1) := dk_42 (dk_at dksX7_qGoesOn_13 5 rfl rfl)
theorem dX7_qGoesOn_309 : decode cX7_qGoesOn 309 = .ok (.invokevirtual 706, 3) := dk_182 2 194 (dk_at dksX7_qGoesOn_13 6 rfl rfl)
theorem dX7_qGoesOn_312 : decode cX7_qGoesOn 312 = .ok (.bipush 21, 2) := dk_16 21 (dk_at dksX7_qGoesOn_13 9 rfl rfl)
theorem dX7_qGoesOn_314 : decode cX7_qGoesOn 314 = .ok (.if_icmp .eq 12, 3) := dk_159 0 12 (dk_at dksX7_qGoesOn_13 11 rfl rfl)
theorem dX7_qGoesOn_317 : decode cX7_qGoesOn 317 = .ok (.aload_n 0, 1) := dk_42 (dk_at dksX7_qGoesOn_13 14 rfl rfl)
theorem dX7_qGoesOn_318 : decode cX7_qGoesOn 318 = .ok (.invokevirtual 706, 3) := dk_182 2 194 (dk_at dksX7_qGoesOn_13 15 rfl rfl)
theorem dX7_qGoesOn_321 : decode cX7_qGoesOn 321 = .ok (.bipush 22, 2) := dk_16 22 (dk_at dksX7_qGoesOn_13 18 rfl rfl)
theorem dX7_qGoesOn_323 : decode cX7_qGoesOn 323 = .ok (.if_icmp .ne 39, 3) := dk_160 0 39 (dk_at dksX7_qGoesOn_13 20 rfl rfl)
theorem dX7_qGoesOn_326 : decode cX7_qGoesOn 326 = .ok (.aload_n 0, 1) := dk_42 (dk_at dksX7_qGoesOn_13 23 rfl rfl)
theorem dX7_qGoesOn_327 : decode cX7_qGoesOn 327 = .ok (.bipush 44, 2) := dk_16 44 (dk_at dksX7_qGoesOn_14 0 rfl rfl)
theorem dX7_qGoesOn_329 : decode cX7_qGoesOn 329 = .ok (.invokevirtual 356, 3) := dk_182 1 100 (dk_at dksX7_qGoesOn_14 2 rfl rfl)
theorem dX7_qGoesOn_332 : decode cX7_qGoesOn 332 = .ok (.aload_n 0, 1) := dk_42 (dk_at dksX7_qGoesOn_14 5 rfl rfl)
theorem dX7_qGoesOn_333 : decode cX7_qGoesOn 333 = .ok (.getfield 278, 3) := dk_180 1 22 (dk_at dksX7_qGoesOn_14 6 rfl rfl)
theorem dX7_qGoesOn_336 : decode cX7_qGoesOn 336 = .ok (.ifCond .eq 5, 3) := dk_153 0 5 (dk_at dksX7_qGoesOn_14 9 rfl rfl)
theorem dX7_qGoesOn_339 : decode cX7_qGoesOn 339 = .ok (.iconst 0, 1) := dk_3 (dk_at dksX7_qGoesOn_14 12 rfl rfl)
theorem dX7_qGoesOn_340 : decode cX7_qGoesOn 340 = .ok (.ireturn, 1) := dk_172 (dk_at dksX7_qGoesOn_14 13 rfl rfl)
theorem dX7_qGoesOn_341 : decode cX7_qGoesOn 341 = .ok (.aload_n 0, 1) := dk_42 (dk_at dksX7_qGoesOn_14 14 rfl rfl)
theorem dX7_qGoesOn_342 : decode cX7_qGoesOn 342 = .ok (.invokevirtual 709, 3) := dk_182 2 197 (dk_at dksX7_qGoesOn_14 15 rfl rfl)
theorem dX7_qGoesOn_345 : decode cX7_qGoesOn 345 = .ok (.aload_n 0, 1) := dk_42 (dk_at dksX7_qGoesOn_14 18 rfl rfl)
theorem dX7_qGoesOn_346 : decode cX7_qGoesOn 346 = .ok (.getfield 266, 3) := dk_180 1 10 (dk_at dksX7_qGoesOn_14 19 rfl rfl)
theorem dX7_qGoesOn_349 : decode cX7_qGoesOn 349 = .ok (.aload_n 0, 1) := dk_42 (dk_at dksX7_qGoesOn_14 22 rfl rfl)
theorem dX7_qGoesOn_350 : decode cX7_qGoesOn 350 = .ok (.getfield 382, 3) := dk_180 1 126 (dk_at dksX7_qGoesOn_15 0 rfl rfl)
theorem dX7_qGoesOn_353 : decode cX7_qGoesOn 353 = .ok (.iconst 1, 1) := dk_4 (dk_at dksX7_qGoesOn_15 3 rfl rfl)
theorem dX7_qGoesOn_354 : decode cX7_qGoesOn 354 = .ok (.isub, 1) := dk_100 (dk_at dksX7_qGoesOn_15 4 rfl rfl)
theorem dX7_qGoesOn_355 : decode cX7_qGoesOn 355 = .ok (.dup2, 1) := dk_92 (dk_at dksX7_qGoesOn_15 5 rfl rfl)
theorem dX7_qGoesOn_356 : decode cX7_qGoesOn 356 = .ok (.iaload, 1) := dk_46 (dk_at dksX7_qGoesOn_15 6 rfl rfl)
theorem dX7_qGoesOn_357 : decode cX7_qGoesOn 357 = .ok (.iconst 2, 1) := dk_5 (dk_at dksX7_qGoesOn_15 7 rfl rfl)
theorem dX7_qGoesOn_358 : decode cX7_qGoesOn 358 = .ok (.iadd, 1) := dk_96 (dk_at dksX7_qGoesOn_15 8 rfl rfl)
theorem dX7_qGoesOn_359 : decode cX7_qGoesOn 359 = .ok (.iastore, 1) := dk_79 (dk_at dksX7_qGoesOn_15 9 rfl rfl)
theorem dX7_qGoesOn_360 : decode cX7_qGoesOn 360 = .ok (.iconst 1, 1) := dk_4 (dk_at dksX7_qGoesOn_15 10 rfl rfl)
theorem dX7_qGoesOn_361 : decode cX7_qGoesOn 361 = .ok (.ireturn, 1) := dk_172 (dk_at dksX7_qGoesOn_15 11 rfl rfl)
theorem dX7_qGoesOn_362 : decode cX7_qGoesOn 362 = .ok (.aload_n 0, 1) := dk_42 (dk_at dksX7_qGoesOn_15 12 rfl rfl)
theorem dX7_qGoesOn_363 : decode cX7_qGoesOn 363 = .ok (.invokevirtual 706, 3) := dk_182 2 194 (dk_at dksX7_qGoesOn_15 13 rfl rfl)
theorem dX7_qGoesOn_366 : decode cX7_qGoesOn 366 = .ok (.iconst (-1), 1) := dk_2 (dk_at dksX7_qGoesOn_15 16 rfl rfl)
theorem dX7_qGoesOn_367 : decode cX7_qGoesOn 367 = .ok (.if_icmp .eq 19, 3) := dk_159 0 19 (dk_at dksX7_qGoesOn_15 17 rfl rfl)
theorem dX7_qGoesOn_370 : decode cX7_qGoesOn 370 = .ok (.aload_n 0, 1) := dk_42 (dk_at dksX7_qGoesOn_15 20 rfl rfl)
theorem dX7_qGoesOn_371 : decode cX7_qGoesOn 371 = .ok (.getfield 278, 3) := dk_180 1 22 (dk_at dksX7_qGoesOn_15 21 rfl rfl)
theorem dX7_qGoesOn_374 : decode cX7_qGoesOn 374 = .ok (.ifCond .ne 12, 3) := dk_154 0 12 (dk_at dksX7_qGoesOn_16 0 rfl rfl)
theorem dX7_qGoesOn_377 : decode cX7_qGoesOn 377 = .ok (.aload_n 0, 1) := dk_42 (dk_at dksX7_qGoesOn_16 3 rfl rfl)
theorem dX7_qGoesOn_378 : decode cX7_qGoesOn 378 = .ok (.iconst 1, 1) := dk_4 (dk_at dksX7_qGoesOn_16 4 rfl rfl)
theorem dX7_qGoesOn_379 : decode cX7_qGoesOn 379 = .ok (.aload_n 0, 1) := dk_42 (dk_at dksX7_qGoesOn_16 5 rfl rfl)
theorem dX7_qGoesOn_380 : decode cX7_qGoesOn 380 = .ok (.getfield 284, 3) := dk_180 1 28 (dk_at dksX7_qGoesOn_16 6 rfl rfl)
theorem dX7_qGoesOn_383 : decode cX7_qGoesOn 383 = .ok (.invokevirtual 308, 3) := dk_182 1 52 (dk_at dksX7_qGoesOn_16 9 rfl rfl)
theorem dX7_qGoesOn_386 : decode cX7_qGoesOn 386 = .ok (.iconst 0, 1) := dk_3 (dk_at dksX7_qGoesOn_16 12 rfl rfl)
theorem dX7_qGoesOn_387 : decode cX7_qGoesOn 387 = .ok (.ireturn, 1) := dk_172 (dk_at dksX7_qGoesOn_16 13 rfl rfl)
abbrev cX7_qBracket : ByteArray := prog_25_method_121_code
def yX7_qBracket : MethodName := ⟨RX7, "qBracket", "()I"⟩
def dkwX7_qBracket_2 : List UInt8 := [167, 0, 4, 2, 172]
abbrev dktX7_qBracket_2 : List UInt8 := dkwX7_qBracket_2 ++ []
def dkwX7_qBracket_1 : List UInt8 := [154, 0, 9, 132, 1, 255, 167, 255, 233, 27, 42, 180, 1, 132, 161, 0, 12, 42, 180, 1, 10, 27, 46]
abbrev dktX7_qBracket_1 : List UInt8 := dkwX7_qBracket_1 ++ dktX7_qBracket_2
def dkwX7_qBracket_0 : List UInt8 := [42, 180, 1, 126, 4, 100, 60, 27, 42, 180, 1, 132, 161, 0, 21, 42, 180, 1, 10, 27, 46, 184, 2, 170]
abbrev dktX7_qBracket_0 : List UInt8 := dkwX7_qBracket_0 ++ dktX7_qBracket_1
theorem dksX7_qBracket_0 : cX7_qBracket.data.toList.drop 0 = dktX7_qBracket_0 := by decide +kernel
theorem dksX7_qBracket_1 : cX7_qBracket.data.toList.drop 24 = dktX7_qBracket_1 := dk_seg dksX7_qBracket_0 24 rfl rfl
theorem dksX7_qBracket_2 : cX7_qBracket.data.toList.drop 47 = dktX7_qBracket_2 := dk_seg dksX7_qBracket_1 23 rfl rfl
theorem dX7_qBracket_0 : decode cX7_qBracket 0 = .ok (.aload_n 0, 1) := dk_42 (dk_at dksX7_qBracket_0 0 rfl rfl)
theorem dX7_qBracket_1 : decode cX7_qBracket 1 = .ok (.getfield 382, 3) := dk_180 1 126 (dk_at dksX7_qBracket_0 1 rfl rfl)
theorem dX7_qBracket_4 : decode cX7_qBracket 4 = .ok (.iconst 1, 1) := dk_4 (dk_at dksX7_qBracket_0 4 rfl rfl)
theorem dX7_qBracket_5 : decode cX7_qBracket 5 = .ok (.isub, 1) := dk_100 (dk_at dksX7_qBracket_0 5 rfl rfl)
theorem dX7_qBracket_6 : decode cX7_qBracket 6 = .ok (.istore_n 1, 1) := dk_60 (dk_at dksX7_qBracket_0 6 rfl rfl)
theorem dX7_qBracket_7 : decode cX7_qBracket 7 = .ok (.iload_n 1, 1) := dk_27 (dk_at dksX7_qBracket_0 7 rfl rfl)
theorem dX7_qBracket_8 : decode cX7_qBracket 8 = .ok (.aload_n 0, 1) := dk_42 (dk_at dksX7_qBracket_0 8 rfl rfl)
theorem dX7_qBracket_9 : decode cX7_qBracket 9 = .ok (.getfield 388, 3) := dk_180 1 132 (dk_at dksX7_qBracket_0 9 rfl rfl)
theorem dX7_qBracket_12 : decode cX7_qBracket 12 = .ok (.if_icmp .lt 21, 3) := dk_161 0 21 (dk_at dksX7_qBracket_0 12 rfl rfl)
theorem dX7_qBracket_15 : decode cX7_qBracket 15 = .ok (.aload_n 0, 1) := dk_42 (dk_at dksX7_qBracket_0 15 rfl rfl)
theorem dX7_qBracket_16 : decode cX7_qBracket 16 = .ok (.getfield 266, 3) := dk_180 1 10 (dk_at dksX7_qBracket_0 16 rfl rfl)
theorem dX7_qBracket_19 : decode cX7_qBracket 19 = .ok (.iload_n 1, 1) := dk_27 (dk_at dksX7_qBracket_0 19 rfl rfl)
theorem dX7_qBracket_20 : decode cX7_qBracket 20 = .ok (.iaload, 1) := dk_46 (dk_at dksX7_qBracket_0 20 rfl rfl)
theorem dX7_qBracket_21 : decode cX7_qBracket 21 = .ok (.invokestatic 682, 3) := dk_184 2 170 (dk_at dksX7_qBracket_0 21 rfl rfl)
theorem dX7_qBracket_24 : decode cX7_qBracket 24 = .ok (.ifCond .ne 9, 3) := dk_154 0 9 (dk_at dksX7_qBracket_1 0 rfl rfl)
theorem dX7_qBracket_27 : decode cX7_qBracket 27 = .ok (.iinc 1 (-1), 3) := dk_132 1 255 (dk_at dksX7_qBracket_1 3 rfl rfl)
theorem dX7_qBracket_30 : decode cX7_qBracket 30 = .ok (.goto (-23), 3) := dk_167 255 233 (dk_at dksX7_qBracket_1 6 rfl rfl)
theorem dX7_qBracket_33 : decode cX7_qBracket 33 = .ok (.iload_n 1, 1) := dk_27 (dk_at dksX7_qBracket_1 9 rfl rfl)
theorem dX7_qBracket_34 : decode cX7_qBracket 34 = .ok (.aload_n 0, 1) := dk_42 (dk_at dksX7_qBracket_1 10 rfl rfl)
theorem dX7_qBracket_35 : decode cX7_qBracket 35 = .ok (.getfield 388, 3) := dk_180 1 132 (dk_at dksX7_qBracket_1 11 rfl rfl)
theorem dX7_qBracket_38 : decode cX7_qBracket 38 = .ok (.if_icmp .lt 12, 3) := dk_161 0 12 (dk_at dksX7_qBracket_1 14 rfl rfl)
theorem dX7_qBracket_41 : decode cX7_qBracket 41 = .ok (.aload_n 0, 1) := dk_42 (dk_at dksX7_qBracket_1 17 rfl rfl)
theorem dX7_qBracket_42 : decode cX7_qBracket 42 = .ok (.getfield 266, 3) := dk_180 1 10 (dk_at dksX7_qBracket_1 18 rfl rfl)
theorem dX7_qBracket_45 : decode cX7_qBracket 45 = .ok (.iload_n 1, 1) := dk_27 (dk_at dksX7_qBracket_1 21 rfl rfl)
theorem dX7_qBracket_46 : decode cX7_qBracket 46 = .ok (.iaload, 1) := dk_46 (dk_at dksX7_qBracket_1 22 rfl rfl)
theorem dX7_qBracket_47 : decode cX7_qBracket 47 = .ok (.goto 4, 3) := dk_167 0 4 (dk_at dksX7_qBracket_2 0 rfl rfl)
theorem dX7_qBracket_50 : decode cX7_qBracket 50 = .ok (.iconst (-1), 1) := dk_2 (dk_at dksX7_qBracket_2 3 rfl rfl)
theorem dX7_qBracket_51 : decode cX7_qBracket 51 = .ok (.ireturn, 1) := dk_172 (dk_at dksX7_qBracket_2 4 rfl rfl)
abbrev cX7_qIsBracket : ByteArray := prog_25_method_120_code
def yX7_qIsBracket : MethodName := ⟨RX7, "qIsBracket", "(I)Z"⟩
def dkwX7_qIsBracket_0 : List UInt8 := [26, 16, 20, 161, 0, 13, 26, 16, 24, 163, 0, 7, 4, 167, 0, 4, 3, 172]
abbrev dktX7_qIsBracket_0 : List UInt8 := dkwX7_qIsBracket_0 ++ []
theorem dksX7_qIsBracket_0 : cX7_qIsBracket.data.toList.drop 0 = dktX7_qIsBracket_0 := by decide +kernel
theorem dX7_qIsBracket_0 : decode cX7_qIsBracket 0 = .ok (.iload_n 0, 1) := dk_26 (dk_at dksX7_qIsBracket_0 0 rfl rfl)
theorem dX7_qIsBracket_1 : decode cX7_qIsBracket 1 = .ok (.bipush 20, 2) := dk_16 20 (dk_at dksX7_qIsBracket_0 1 rfl rfl)
theorem dX7_qIsBracket_3 : decode cX7_qIsBracket 3 = .ok (.if_icmp .lt 13, 3) := dk_161 0 13 (dk_at dksX7_qIsBracket_0 3 rfl rfl)
theorem dX7_qIsBracket_6 : decode cX7_qIsBracket 6 = .ok (.iload_n 0, 1) := dk_26 (dk_at dksX7_qIsBracket_0 6 rfl rfl)
theorem dX7_qIsBracket_7 : decode cX7_qIsBracket 7 = .ok (.bipush 24, 2) := dk_16 24 (dk_at dksX7_qIsBracket_0 7 rfl rfl)
theorem dX7_qIsBracket_9 : decode cX7_qIsBracket 9 = .ok (.if_icmp .gt 7, 3) := dk_163 0 7 (dk_at dksX7_qIsBracket_0 9 rfl rfl)
theorem dX7_qIsBracket_12 : decode cX7_qIsBracket 12 = .ok (.iconst 1, 1) := dk_4 (dk_at dksX7_qIsBracket_0 12 rfl rfl)
theorem dX7_qIsBracket_13 : decode cX7_qIsBracket 13 = .ok (.goto 4, 3) := dk_167 0 4 (dk_at dksX7_qIsBracket_0 13 rfl rfl)
theorem dX7_qIsBracket_16 : decode cX7_qIsBracket 16 = .ok (.iconst 0, 1) := dk_3 (dk_at dksX7_qIsBracket_0 16 rfl rfl)
theorem dX7_qIsBracket_17 : decode cX7_qIsBracket 17 = .ok (.ireturn, 1) := dk_172 (dk_at dksX7_qIsBracket_0 17 rfl rfl)
abbrev cX7_qDropsToBracket : ByteArray := prog_25_method_122_code
def yX7_qDropsToBracket : MethodName := ⟨RX7, "qDropsToBracket", "()V"⟩
def dkwX7_qDropsToBracket_1 : List UInt8 := [184, 2, 170, 154, 0, 10, 42, 182, 2, 173, 167, 255, 224, 177]
abbrev dktX7_qDropsToBracket_1 : List UInt8 := dkwX7_qDropsToBracket_1 ++ []
def dkwX7_qDropsToBracket_0 : List UInt8 := [42, 180, 1, 126, 42, 180, 1, 132, 164, 0, 27, 42, 180, 1, 10, 42, 180, 1, 126, 4, 100, 46]
abbrev dktX7_qDropsToBracket_0 : List UInt8 := dkwX7_qDropsToBracket_0 ++ dktX7_qDropsToBracket_1
theorem dksX7_qDropsToBracket_0 : cX7_qDropsToBracket.data.toList.drop 0 = dktX7_qDropsToBracket_0 := by decide +kernel
theorem dksX7_qDropsToBracket_1 : cX7_qDropsToBracket.data.toList.drop 22 = dktX7_qDropsToBracket_1 := dk_seg dksX7_qDropsToBracket_0 22 rfl rfl
theorem dX7_qDropsToBracket_0 : decode cX7_qDropsToBracket 0 = .ok (.aload_n 0, 1) := dk_42 (dk_at dksX7_qDropsToBracket_0 0 rfl rfl)
theorem dX7_qDropsToBracket_1 : decode cX7_qDropsToBracket 1 = .ok (.getfield 382, 3) := dk_180 1 126 (dk_at dksX7_qDropsToBracket_0 1 rfl rfl)
theorem dX7_qDropsToBracket_4 : decode cX7_qDropsToBracket 4 = .ok (.aload_n 0, 1) := dk_42 (dk_at dksX7_qDropsToBracket_0 4 rfl rfl)
theorem dX7_qDropsToBracket_5 : decode cX7_qDropsToBracket 5 = .ok (.getfield 388, 3) := dk_180 1 132 (dk_at dksX7_qDropsToBracket_0 5 rfl rfl)
theorem dX7_qDropsToBracket_8 : decode cX7_qDropsToBracket 8 = .ok (.if_icmp .le 27, 3) := dk_164 0 27 (dk_at dksX7_qDropsToBracket_0 8 rfl rfl)
theorem dX7_qDropsToBracket_11 : decode cX7_qDropsToBracket 11 = .ok (.aload_n 0, 1) := dk_42 (dk_at dksX7_qDropsToBracket_0 11 rfl rfl)
theorem dX7_qDropsToBracket_12 : decode cX7_qDropsToBracket 12 = .ok (.getfield 266, 3) := dk_180 1 10 (dk_at dksX7_qDropsToBracket_0 12 rfl rfl)
theorem dX7_qDropsToBracket_15 : decode cX7_qDropsToBracket 15 = .ok (.aload_n 0, 1) := dk_42 (dk_at dksX7_qDropsToBracket_0 15 rfl rfl)
theorem dX7_qDropsToBracket_16 : decode cX7_qDropsToBracket 16 = .ok (.getfield 382, 3) := dk_180 1 126 (dk_at dksX7_qDropsToBracket_0 16 rfl rfl)
theorem dX7_qDropsToBracket_19 : decode cX7_qDropsToBracket 19 = .ok (.iconst 1, 1) := dk_4 (dk_at dksX7_qDropsToBracket_0 19 rfl rfl)
theorem dX7_qDropsToBracket_20 : decode cX7_qDropsToBracket 20 = .ok (.isub, 1) := dk_100 (dk_at dksX7_qDropsToBracket_0 20 rfl rfl)
theorem dX7_qDropsToBracket_21 : decode cX7_qDropsToBracket 21 = .ok (.iaload, 1) := dk_46 (dk_at dksX7_qDropsToBracket_0 21 rfl rfl)
theorem dX7_qDropsToBracket_22 : decode cX7_qDropsToBracket 22 = .ok (.invokestatic 682, 3) := dk_184 2 170 (dk_at dksX7_qDropsToBracket_1 0 rfl rfl)
theorem dX7_qDropsToBracket_25 : decode cX7_qDropsToBracket 25 = .ok (.ifCond .ne 10, 3) := dk_154 0 10 (dk_at dksX7_qDropsToBracket_1 3 rfl rfl)
theorem dX7_qDropsToBracket_28 : decode cX7_qDropsToBracket 28 = .ok (.aload_n 0, 1) := dk_42 (dk_at dksX7_qDropsToBracket_1 6 rfl rfl)
theorem dX7_qDropsToBracket_29 : decode cX7_qDropsToBracket 29 = .ok (.invokevirtual 685, 3) := dk_182 2 173 (dk_at dksX7_qDropsToBracket_1 7 rfl rfl)
theorem dX7_qDropsToBracket_32 : decode cX7_qDropsToBracket 32 = .ok (.goto (-32), 3) := dk_167 255 224 (dk_at dksX7_qDropsToBracket_1 10 rfl rfl)
theorem dX7_qDropsToBracket_35 : decode cX7_qDropsToBracket 35 = .ok (.return_, 1) := dk_177 (dk_at dksX7_qDropsToBracket_1 13 rfl rfl)
abbrev cX7_qIsOn : ByteArray := prog_25_method_118_code
def yX7_qIsOn : MethodName := ⟨RX7, "qIsOn", "(I)Z"⟩
def dkwX7_qIsOn_1 : List UInt8 := [167, 0, 4, 3, 172]
abbrev dktX7_qIsOn_1 : List UInt8 := dkwX7_qIsOn_1 ++ []
def dkwX7_qIsOn_0 : List UInt8 := [42, 180, 1, 126, 158, 0, 22, 42, 180, 1, 10, 42, 180, 1, 126, 4, 100, 46, 27, 160, 0, 7, 4]
abbrev dktX7_qIsOn_0 : List UInt8 := dkwX7_qIsOn_0 ++ dktX7_qIsOn_1
theorem dksX7_qIsOn_0 : cX7_qIsOn.data.toList.drop 0 = dktX7_qIsOn_0 := by decide +kernel
theorem dksX7_qIsOn_1 : cX7_qIsOn.data.toList.drop 23 = dktX7_qIsOn_1 := dk_seg dksX7_qIsOn_0 23 rfl rfl
theorem dX7_qIsOn_0 : decode cX7_qIsOn 0 = .ok (.aload_n 0, 1) := dk_42 (dk_at dksX7_qIsOn_0 0 rfl rfl)
theorem dX7_qIsOn_1 : decode cX7_qIsOn 1 = .ok (.getfield 382, 3) := dk_180 1 126 (dk_at dksX7_qIsOn_0 1 rfl rfl)
theorem dX7_qIsOn_4 : decode cX7_qIsOn 4 = .ok (.ifCond .le 22, 3) := dk_158 0 22 (dk_at dksX7_qIsOn_0 4 rfl rfl)
theorem dX7_qIsOn_7 : decode cX7_qIsOn 7 = .ok (.aload_n 0, 1) := dk_42 (dk_at dksX7_qIsOn_0 7 rfl rfl)
theorem dX7_qIsOn_8 : decode cX7_qIsOn 8 = .ok (.getfield 266, 3) := dk_180 1 10 (dk_at dksX7_qIsOn_0 8 rfl rfl)
theorem dX7_qIsOn_11 : decode cX7_qIsOn 11 = .ok (.aload_n 0, 1) := dk_42 (dk_at dksX7_qIsOn_0 11 rfl rfl)
theorem dX7_qIsOn_12 : decode cX7_qIsOn 12 = .ok (.getfield 382, 3) := dk_180 1 126 (dk_at dksX7_qIsOn_0 12 rfl rfl)
theorem dX7_qIsOn_15 : decode cX7_qIsOn 15 = .ok (.iconst 1, 1) := dk_4 (dk_at dksX7_qIsOn_0 15 rfl rfl)
theorem dX7_qIsOn_16 : decode cX7_qIsOn 16 = .ok (.isub, 1) := dk_100 (dk_at dksX7_qIsOn_0 16 rfl rfl)
theorem dX7_qIsOn_17 : decode cX7_qIsOn 17 = .ok (.iaload, 1) := dk_46 (dk_at dksX7_qIsOn_0 17 rfl rfl)
theorem dX7_qIsOn_18 : decode cX7_qIsOn 18 = .ok (.iload_n 1, 1) := dk_27 (dk_at dksX7_qIsOn_0 18 rfl rfl)
theorem dX7_qIsOn_19 : decode cX7_qIsOn 19 = .ok (.if_icmp .ne 7, 3) := dk_160 0 7 (dk_at dksX7_qIsOn_0 19 rfl rfl)
theorem dX7_qIsOn_22 : decode cX7_qIsOn 22 = .ok (.iconst 1, 1) := dk_4 (dk_at dksX7_qIsOn_0 22 rfl rfl)
theorem dX7_qIsOn_23 : decode cX7_qIsOn 23 = .ok (.goto 4, 3) := dk_167 0 4 (dk_at dksX7_qIsOn_1 0 rfl rfl)
theorem dX7_qIsOn_26 : decode cX7_qIsOn 26 = .ok (.iconst 0, 1) := dk_3 (dk_at dksX7_qIsOn_1 3 rfl rfl)
theorem dX7_qIsOn_27 : decode cX7_qIsOn 27 = .ok (.ireturn, 1) := dk_172 (dk_at dksX7_qIsOn_1 4 rfl rfl)
abbrev cX7_stands : ByteArray := prog_25_method_30_code
def yX7_stands : MethodName := ⟨RX7, "stands", "()V"⟩
def dkwX7_stands_15 : List UInt8 := [42, 3, 181, 1, 174, 177]
abbrev dktX7_stands_15 : List UInt8 := dkwX7_stands_15 ++ []
def dkwX7_stands_14 : List UInt8 := [27, 96, 42, 180, 0, 139, 6, 27, 104, 5, 96, 46, 79, 132, 1, 1, 167, 255, 224, 42, 3, 181, 1, 171]
abbrev dktX7_stands_14 : List UInt8 := dkwX7_stands_14 ++ dktX7_stands_15
def dkwX7_stands_13 : List UInt8 := [132, 1, 1, 167, 255, 227, 3, 60, 27, 42, 180, 0, 120, 5, 46, 162, 0, 28, 42, 180, 0, 154, 16, 18]
abbrev dktX7_stands_13 : List UInt8 := dkwX7_stands_13 ++ dktX7_stands_14
def dkwX7_stands_12 : List UInt8 := [180, 0, 120, 4, 46, 104, 162, 0, 23, 42, 180, 0, 154, 5, 27, 96, 42, 180, 0, 136, 27, 46, 79]
abbrev dktX7_stands_12 : List UInt8 := dkwX7_stands_12 ++ dktX7_stands_13
def dkwX7_stands_11 : List UInt8 := [17, 0, 225, 162, 0, 16, 42, 180, 0, 154, 27, 3, 79, 132, 1, 1, 167, 255, 239, 3, 60, 27, 5, 42]
abbrev dktX7_stands_11 : List UInt8 := dkwX7_stands_11 ++ dktX7_stands_12
def dkwX7_stands_10 : List UInt8 := [180, 0, 151, 17, 6, 64, 27, 96, 42, 180, 0, 151, 27, 46, 79, 132, 1, 1, 167, 255, 229, 3, 60, 27]
abbrev dktX7_stands_10 : List UInt8 := dkwX7_stands_10 ++ dktX7_stands_11
def dkwX7_stands_9 : List UInt8 := [42, 180, 0, 148, 4, 42, 180, 0, 148, 3, 46, 79, 3, 60, 27, 42, 180, 1, 138, 162, 0, 25, 42]
abbrev dktX7_stands_9 : List UInt8 := dkwX7_stands_9 ++ dktX7_stands_10
def dkwX7_stands_8 : List UInt8 := [180, 0, 142, 27, 46, 79, 132, 1, 1, 167, 255, 234, 42, 180, 0, 145, 4, 42, 180, 0, 145, 3, 46, 79]
abbrev dktX7_stands_8 : List UInt8 := dkwX7_stands_8 ++ dktX7_stands_9
def dkwX7_stands_7 : List UInt8 := [46, 79, 132, 1, 1, 167, 255, 232, 3, 60, 27, 5, 162, 0, 23, 42, 180, 0, 142, 5, 27, 96, 42]
abbrev dktX7_stands_7 : List UInt8 := dkwX7_stands_7 ++ dktX7_stands_8
def dkwX7_stands_6 : List UInt8 := [167, 255, 232, 3, 60, 27, 16, 18, 162, 0, 24, 42, 180, 0, 139, 16, 18, 27, 96, 42, 180, 0, 139, 27]
abbrev dktX7_stands_6 : List UInt8 := dkwX7_stands_6 ++ dktX7_stands_7
def dkwX7_stands_5 : List UInt8 := [16, 16, 162, 0, 24, 42, 180, 0, 133, 16, 16, 27, 96, 42, 180, 0, 133, 27, 46, 79, 132, 1, 1]
abbrev dktX7_stands_5 : List UInt8 := dkwX7_stands_5 ++ dktX7_stands_6
def dkwX7_stands_4 : List UInt8 := [42, 180, 0, 130, 16, 20, 27, 96, 42, 180, 0, 130, 27, 46, 79, 132, 1, 1, 167, 255, 232, 3, 60, 27]
abbrev dktX7_stands_4 : List UInt8 := dkwX7_stands_4 ++ dktX7_stands_5
def dkwX7_stands_3 : List UInt8 := [7, 27, 96, 42, 180, 0, 127, 27, 46, 79, 132, 1, 1, 167, 255, 234, 3, 60, 27, 16, 20, 162, 0, 24]
abbrev dktX7_stands_3 : List UInt8 := dkwX7_stands_3 ++ dktX7_stands_4
def dkwX7_stands_2 : List UInt8 := [42, 180, 0, 123, 27, 47, 80, 132, 1, 1, 167, 255, 232, 3, 60, 27, 7, 162, 0, 23, 42, 180, 0, 127]
abbrev dktX7_stands_2 : List UInt8 := dkwX7_stands_2 ++ dktX7_stands_3
def dkwX7_stands_1 : List UInt8 := [46, 79, 132, 1, 1, 167, 255, 234, 3, 60, 27, 16, 24, 162, 0, 24, 42, 180, 0, 123, 16, 24, 27, 96]
abbrev dktX7_stands_1 : List UInt8 := dkwX7_stands_1 ++ dktX7_stands_2
def dkwX7_stands_0 : List UInt8 := [42, 4, 181, 1, 168, 3, 60, 27, 6, 162, 0, 23, 42, 180, 0, 120, 6, 27, 96, 42, 180, 0, 120, 27]
abbrev dktX7_stands_0 : List UInt8 := dkwX7_stands_0 ++ dktX7_stands_1
theorem dksX7_stands_0 : cX7_stands.data.toList.drop 0 = dktX7_stands_0 := by decide +kernel
theorem dksX7_stands_1 : cX7_stands.data.toList.drop 24 = dktX7_stands_1 := dk_seg dksX7_stands_0 24 rfl rfl
theorem dksX7_stands_2 : cX7_stands.data.toList.drop 48 = dktX7_stands_2 := dk_seg dksX7_stands_1 24 rfl rfl
theorem dksX7_stands_3 : cX7_stands.data.toList.drop 72 = dktX7_stands_3 := dk_seg dksX7_stands_2 24 rfl rfl
theorem dksX7_stands_4 : cX7_stands.data.toList.drop 96 = dktX7_stands_4 := dk_seg dksX7_stands_3 24 rfl rfl
theorem dksX7_stands_5 : cX7_stands.data.toList.drop 120 = dktX7_stands_5 := dk_seg dksX7_stands_4 24 rfl rfl
theorem dksX7_stands_6 : cX7_stands.data.toList.drop 143 = dktX7_stands_6 := dk_seg dksX7_stands_5 23 rfl rfl
theorem dksX7_stands_7 : cX7_stands.data.toList.drop 167 = dktX7_stands_7 := dk_seg dksX7_stands_6 24 rfl rfl
theorem dksX7_stands_8 : cX7_stands.data.toList.drop 190 = dktX7_stands_8 := dk_seg dksX7_stands_7 23 rfl rfl
theorem dksX7_stands_9 : cX7_stands.data.toList.drop 214 = dktX7_stands_9 := dk_seg dksX7_stands_8 24 rfl rfl
theorem dksX7_stands_10 : cX7_stands.data.toList.drop 237 = dktX7_stands_10 := dk_seg dksX7_stands_9 23 rfl rfl
theorem dksX7_stands_11 : cX7_stands.data.toList.drop 261 = dktX7_stands_11 := dk_seg dksX7_stands_10 24 rfl rfl
theorem dksX7_stands_12 : cX7_stands.data.toList.drop 285 = dktX7_stands_12 := dk_seg dksX7_stands_11 24 rfl rfl
theorem dksX7_stands_13 : cX7_stands.data.toList.drop 308 = dktX7_stands_13 := dk_seg dksX7_stands_12 23 rfl rfl
theorem dksX7_stands_14 : cX7_stands.data.toList.drop 332 = dktX7_stands_14 := dk_seg dksX7_stands_13 24 rfl rfl
theorem dksX7_stands_15 : cX7_stands.data.toList.drop 356 = dktX7_stands_15 := dk_seg dksX7_stands_14 24 rfl rfl
theorem dX7_stands_0 : decode cX7_stands 0 = .ok (.aload_n 0, 1) := dk_42 (dk_at dksX7_stands_0 0 rfl rfl)
theorem dX7_stands_1 : decode cX7_stands 1 = .ok (.iconst 1, 1) := dk_4 (dk_at dksX7_stands_0 1 rfl rfl)
theorem dX7_stands_2 : decode cX7_stands 2 = .ok (.putfield 424, 3) := dk_181 1 168 (dk_at dksX7_stands_0 2 rfl rfl)
theorem dX7_stands_5 : decode cX7_stands 5 = .ok (.iconst 0, 1) := dk_3 (dk_at dksX7_stands_0 5 rfl rfl)
theorem dX7_stands_6 : decode cX7_stands 6 = .ok (.istore_n 1, 1) := dk_60 (dk_at dksX7_stands_0 6 rfl rfl)
theorem dX7_stands_7 : decode cX7_stands 7 = .ok (.iload_n 1, 1) := dk_27 (dk_at dksX7_stands_0 7 rfl rfl)
theorem dX7_stands_8 : decode cX7_stands 8 = .ok (.iconst 3, 1) := dk_6 (dk_at dksX7_stands_0 8 rfl rfl)
theorem dX7_stands_9 : decode cX7_stands 9 = .ok (.if_icmp .ge 23, 3) := dk_162 0 23 (dk_at dksX7_stands_0 9 rfl rfl)
theorem dX7_stands_12 : decode cX7_stands 12 = .ok (.aload_n 0, 1) := dk_42 (dk_at dksX7_stands_0 12 rfl rfl)
theorem dX7_stands_13 : decode cX7_stands 13 = .ok (.getfield 120, 3) := dk_180 0 120 (dk_at dksX7_stands_0 13 rfl rfl)
theorem dX7_stands_16 : decode cX7_stands 16 = .ok (.iconst 3, 1) := dk_6 (dk_at dksX7_stands_0 16 rfl rfl)
theorem dX7_stands_17 : decode cX7_stands 17 = .ok (.iload_n 1, 1) := dk_27 (dk_at dksX7_stands_0 17 rfl rfl)
theorem dX7_stands_18 : decode cX7_stands 18 = .ok (.iadd, 1) := dk_96 (dk_at dksX7_stands_0 18 rfl rfl)
theorem dX7_stands_19 : decode cX7_stands 19 = .ok (.aload_n 0, 1) := dk_42 (dk_at dksX7_stands_0 19 rfl rfl)
theorem dX7_stands_20 : decode cX7_stands 20 = .ok (.getfield 120, 3) := dk_180 0 120 (dk_at dksX7_stands_0 20 rfl rfl)
theorem dX7_stands_23 : decode cX7_stands 23 = .ok (.iload_n 1, 1) := dk_27 (dk_at dksX7_stands_0 23 rfl rfl)
theorem dX7_stands_24 : decode cX7_stands 24 = .ok (.iaload, 1) := dk_46 (dk_at dksX7_stands_1 0 rfl rfl)
theorem dX7_stands_25 : decode cX7_stands 25 = .ok (.iastore, 1) := dk_79 (dk_at dksX7_stands_1 1 rfl rfl)
theorem dX7_stands_26 : decode cX7_stands 26 = .ok (.iinc 1 1, 3) := dk_132 1 1 (dk_at dksX7_stands_1 2 rfl rfl)
theorem dX7_stands_29 : decode cX7_stands 29 = .ok (.goto (-22), 3) := dk_167 255 234 (dk_at dksX7_stands_1 5 rfl rfl)
theorem dX7_stands_32 : decode cX7_stands 32 = .ok (.iconst 0, 1) := dk_3 (dk_at dksX7_stands_1 8 rfl rfl)
theorem dX7_stands_33 : decode cX7_stands 33 = .ok (.istore_n 1, 1) := dk_60 (dk_at dksX7_stands_1 9 rfl rfl)
theorem dX7_stands_34 : decode cX7_stands 34 = .ok (.iload_n 1, 1) := dk_27 (dk_at dksX7_stands_1 10 rfl rfl)
theorem dX7_stands_35 : decode cX7_stands 35 = .ok (.bipush 24, 2) := dk_16 24 (dk_at dksX7_stands_1 11 rfl rfl)
theorem dX7_stands_37 : decode cX7_stands 37 = .ok (.if_icmp .ge 24, 3) := dk_162 0 24 (dk_at dksX7_stands_1 13 rfl rfl)
theorem dX7_stands_40 : decode cX7_stands 40 = .ok (.aload_n 0, 1) := dk_42 (dk_at dksX7_stands_1 16 rfl rfl)
theorem dX7_stands_41 : decode cX7_stands 41 = .ok (.getfield 123, 3) := dk_180 0 123 (dk_at dksX7_stands_1 17 rfl rfl)
theorem dX7_stands_44 : decode cX7_stands 44 = .ok (.bipush 24, 2) := dk_16 24 (dk_at dksX7_stands_1 20 rfl rfl)
theorem dX7_stands_46 : decode cX7_stands 46 = .ok (.iload_n 1, 1) := dk_27 (dk_at dksX7_stands_1 22 rfl rfl)
theorem dX7_stands_47 : decode cX7_stands 47 = .ok (.iadd, 1) := dk_96 (dk_at dksX7_stands_1 23 rfl rfl)
theorem dX7_stands_48 : decode cX7_stands 48 = .ok (.aload_n 0, 1) := dk_42 (dk_at dksX7_stands_2 0 rfl rfl)
theorem dX7_stands_49 : decode cX7_stands 49 = .ok (.getfield 123, 3) := dk_180 0 123 (dk_at dksX7_stands_2 1 rfl rfl)
theorem dX7_stands_52 : decode cX7_stands 52 = .ok (.iload_n 1, 1) := dk_27 (dk_at dksX7_stands_2 4 rfl rfl)
theorem dX7_stands_53 : decode cX7_stands 53 = .ok (.laload, 1) := dk_47 (dk_at dksX7_stands_2 5 rfl rfl)
theorem dX7_stands_54 : decode cX7_stands 54 = .ok (.lastore, 1) := dk_80 (dk_at dksX7_stands_2 6 rfl rfl)
theorem dX7_stands_55 : decode cX7_stands 55 = .ok (.iinc 1 1, 3) := dk_132 1 1 (dk_at dksX7_stands_2 7 rfl rfl)
theorem dX7_stands_58 : decode cX7_stands 58 = .ok (.goto (-24), 3) := dk_167 255 232 (dk_at dksX7_stands_2 10 rfl rfl)
theorem dX7_stands_61 : decode cX7_stands 61 = .ok (.iconst 0, 1) := dk_3 (dk_at dksX7_stands_2 13 rfl rfl)
theorem dX7_stands_62 : decode cX7_stands 62 = .ok (.istore_n 1, 1) := dk_60 (dk_at dksX7_stands_2 14 rfl rfl)
theorem dX7_stands_63 : decode cX7_stands 63 = .ok (.iload_n 1, 1) := dk_27 (dk_at dksX7_stands_2 15 rfl rfl)
theorem dX7_stands_64 : decode cX7_stands 64 = .ok (.iconst 4, 1) := dk_7 (dk_at dksX7_stands_2 16 rfl rfl)
theorem dX7_stands_65 : decode cX7_stands 65 = .ok (.if_icmp .ge 23, 3) := dk_162 0 23 (dk_at dksX7_stands_2 17 rfl rfl)
theorem dX7_stands_68 : decode cX7_stands 68 = .ok (.aload_n 0, 1) := dk_42 (dk_at dksX7_stands_2 20 rfl rfl)
theorem dX7_stands_69 : decode cX7_stands 69 = .ok (.getfield 127, 3) := dk_180 0 127 (dk_at dksX7_stands_2 21 rfl rfl)
theorem dX7_stands_72 : decode cX7_stands 72 = .ok (.iconst 4, 1) := dk_7 (dk_at dksX7_stands_3 0 rfl rfl)
theorem dX7_stands_73 : decode cX7_stands 73 = .ok (.iload_n 1, 1) := dk_27 (dk_at dksX7_stands_3 1 rfl rfl)
theorem dX7_stands_74 : decode cX7_stands 74 = .ok (.iadd, 1) := dk_96 (dk_at dksX7_stands_3 2 rfl rfl)
theorem dX7_stands_75 : decode cX7_stands 75 = .ok (.aload_n 0, 1) := dk_42 (dk_at dksX7_stands_3 3 rfl rfl)
theorem dX7_stands_76 : decode cX7_stands 76 = .ok (.getfield 127, 3) := dk_180 0 127 (dk_at dksX7_stands_3 4 rfl rfl)
theorem dX7_stands_79 : decode cX7_stands 79 = .ok (.iload_n 1, 1) := dk_27 (dk_at dksX7_stands_3 7 rfl rfl)
theorem dX7_stands_80 : decode cX7_stands 80 = .ok (.iaload, 1) := dk_46 (dk_at dksX7_stands_3 8 rfl rfl)
theorem dX7_stands_81 : decode cX7_stands 81 = .ok (.iastore, 1) := dk_79 (dk_at dksX7_stands_3 9 rfl rfl)
theorem dX7_stands_82 : decode cX7_stands 82 = .ok (.iinc 1 1, 3) := dk_132 1 1 (dk_at dksX7_stands_3 10 rfl rfl)
theorem dX7_stands_85 : decode cX7_stands 85 = .ok (.goto (-22), 3) := dk_167 255 234 (dk_at dksX7_stands_3 13 rfl rfl)
theorem dX7_stands_88 : decode cX7_stands 88 = .ok (.iconst 0, 1) := dk_3 (dk_at dksX7_stands_3 16 rfl rfl)
theorem dX7_stands_89 : decode cX7_stands 89 = .ok (.istore_n 1, 1) := dk_60 (dk_at dksX7_stands_3 17 rfl rfl)
theorem dX7_stands_90 : decode cX7_stands 90 = .ok (.iload_n 1, 1) := dk_27 (dk_at dksX7_stands_3 18 rfl rfl)
theorem dX7_stands_91 : decode cX7_stands 91 = .ok (.bipush 20, 2) := dk_16 20 (dk_at dksX7_stands_3 19 rfl rfl)
theorem dX7_stands_93 : decode cX7_stands 93 = .ok (.if_icmp .ge 24, 3) := dk_162 0 24 (dk_at dksX7_stands_3 21 rfl rfl)
theorem dX7_stands_96 : decode cX7_stands 96 = .ok (.aload_n 0, 1) := dk_42 (dk_at dksX7_stands_4 0 rfl rfl)
theorem dX7_stands_97 : decode cX7_stands 97 = .ok (.getfield 130, 3) := dk_180 0 130 (dk_at dksX7_stands_4 1 rfl rfl)
theorem dX7_stands_100 : decode cX7_stands 100 = .ok (.bipush 20, 2) := dk_16 20 (dk_at dksX7_stands_4 4 rfl rfl)
theorem dX7_stands_102 : decode cX7_stands 102 = .ok (.iload_n 1, 1) := dk_27 (dk_at dksX7_stands_4 6 rfl rfl)
theorem dX7_stands_103 : decode cX7_stands 103 = .ok (.iadd, 1) := dk_96 (dk_at dksX7_stands_4 7 rfl rfl)
theorem dX7_stands_104 : decode cX7_stands 104 = .ok (.aload_n 0, 1) := dk_42 (dk_at dksX7_stands_4 8 rfl rfl)
theorem dX7_stands_105 : decode cX7_stands 105 = .ok (.getfield 130, 3) := dk_180 0 130 (dk_at dksX7_stands_4 9 rfl rfl)
theorem dX7_stands_108 : decode cX7_stands 108 = .ok (.iload_n 1, 1) := dk_27 (dk_at dksX7_stands_4 12 rfl rfl)
theorem dX7_stands_109 : decode cX7_stands 109 = .ok (.iaload, 1) := dk_46 (dk_at dksX7_stands_4 13 rfl rfl)
theorem dX7_stands_110 : decode cX7_stands 110 = .ok (.iastore, 1) := dk_79 (dk_at dksX7_stands_4 14 rfl rfl)
theorem dX7_stands_111 : decode cX7_stands 111 = .ok (.iinc 1 1, 3) := dk_132 1 1 (dk_at dksX7_stands_4 15 rfl rfl)
theorem dX7_stands_114 : decode cX7_stands 114 = .ok (.goto (-24), 3) := dk_167 255 232 (dk_at dksX7_stands_4 18 rfl rfl)
theorem dX7_stands_117 : decode cX7_stands 117 = .ok (.iconst 0, 1) := dk_3 (dk_at dksX7_stands_4 21 rfl rfl)
theorem dX7_stands_118 : decode cX7_stands 118 = .ok (.istore_n 1, 1) := dk_60 (dk_at dksX7_stands_4 22 rfl rfl)
theorem dX7_stands_119 : decode cX7_stands 119 = .ok (.iload_n 1, 1) := dk_27 (dk_at dksX7_stands_4 23 rfl rfl)
theorem dX7_stands_120 : decode cX7_stands 120 = .ok (.bipush 16, 2) := dk_16 16 (dk_at dksX7_stands_5 0 rfl rfl)
theorem dX7_stands_122 : decode cX7_stands 122 = .ok (.if_icmp .ge 24, 3) := dk_162 0 24 (dk_at dksX7_stands_5 2 rfl rfl)
theorem dX7_stands_125 : decode cX7_stands 125 = .ok (.aload_n 0, 1) := dk_42 (dk_at dksX7_stands_5 5 rfl rfl)
theorem dX7_stands_126 : decode cX7_stands 126 = .ok (.getfield 133, 3) := dk_180 0 133 (dk_at dksX7_stands_5 6 rfl rfl)
theorem dX7_stands_129 : decode cX7_stands 129 = .ok (.bipush 16, 2) := dk_16 16 (dk_at dksX7_stands_5 9 rfl rfl)
theorem dX7_stands_131 : decode cX7_stands 131 = .ok (.iload_n 1, 1) := dk_27 (dk_at dksX7_stands_5 11 rfl rfl)
theorem dX7_stands_132 : decode cX7_stands 132 = .ok (.iadd, 1) := dk_96 (dk_at dksX7_stands_5 12 rfl rfl)
theorem dX7_stands_133 : decode cX7_stands 133 = .ok (.aload_n 0, 1) := dk_42 (dk_at dksX7_stands_5 13 rfl rfl)
theorem dX7_stands_134 : decode cX7_stands 134 = .ok (.getfield 133, 3) := dk_180 0 133 (dk_at dksX7_stands_5 14 rfl rfl)
theorem dX7_stands_137 : decode cX7_stands 137 = .ok (.iload_n 1, 1) := dk_27 (dk_at dksX7_stands_5 17 rfl rfl)
theorem dX7_stands_138 : decode cX7_stands 138 = .ok (.iaload, 1) := dk_46 (dk_at dksX7_stands_5 18 rfl rfl)
theorem dX7_stands_139 : decode cX7_stands 139 = .ok (.iastore, 1) := dk_79 (dk_at dksX7_stands_5 19 rfl rfl)
theorem dX7_stands_140 : decode cX7_stands 140 = .ok (.iinc 1 1, 3) := dk_132 1 1 (dk_at dksX7_stands_5 20 rfl rfl)
theorem dX7_stands_143 : decode cX7_stands 143 = .ok (.goto (-24), 3) := dk_167 255 232 (dk_at dksX7_stands_6 0 rfl rfl)
theorem dX7_stands_146 : decode cX7_stands 146 = .ok (.iconst 0, 1) := dk_3 (dk_at dksX7_stands_6 3 rfl rfl)
theorem dX7_stands_147 : decode cX7_stands 147 = .ok (.istore_n 1, 1) := dk_60 (dk_at dksX7_stands_6 4 rfl rfl)
theorem dX7_stands_148 : decode cX7_stands 148 = .ok (.iload_n 1, 1) := dk_27 (dk_at dksX7_stands_6 5 rfl rfl)
theorem dX7_stands_149 : decode cX7_stands 149 = .ok (.bipush 18, 2) := dk_16 18 (dk_at dksX7_stands_6 6 rfl rfl)
theorem dX7_stands_151 : decode cX7_stands 151 = .ok (.if_icmp .ge 24, 3) := dk_162 0 24 (dk_at dksX7_stands_6 8 rfl rfl)
theorem dX7_stands_154 : decode cX7_stands 154 = .ok (.aload_n 0, 1) := dk_42 (dk_at dksX7_stands_6 11 rfl rfl)
theorem dX7_stands_155 : decode cX7_stands 155 = .ok (.getfield 139, 3) := dk_180 0 139 (dk_at dksX7_stands_6 12 rfl rfl)
theorem dX7_stands_158 : decode cX7_stands 158 = .ok (.bipush 18, 2) := dk_16 18 (dk_at dksX7_stands_6 15 rfl rfl)
theorem dX7_stands_160 : decode cX7_stands 160 = .ok (.iload_n 1, 1) := dk_27 (dk_at dksX7_stands_6 17 rfl rfl)
theorem dX7_stands_161 : decode cX7_stands 161 = .ok (.iadd, 1) := dk_96 (dk_at dksX7_stands_6 18 rfl rfl)
theorem dX7_stands_162 : decode cX7_stands 162 = .ok (.aload_n 0, 1) := dk_42 (dk_at dksX7_stands_6 19 rfl rfl)
theorem dX7_stands_163 : decode cX7_stands 163 = .ok (.getfield 139, 3) := dk_180 0 139 (dk_at dksX7_stands_6 20 rfl rfl)
theorem dX7_stands_166 : decode cX7_stands 166 = .ok (.iload_n 1, 1) := dk_27 (dk_at dksX7_stands_6 23 rfl rfl)
theorem dX7_stands_167 : decode cX7_stands 167 = .ok (.iaload, 1) := dk_46 (dk_at dksX7_stands_7 0 rfl rfl)
theorem dX7_stands_168 : decode cX7_stands 168 = .ok (.iastore, 1) := dk_79 (dk_at dksX7_stands_7 1 rfl rfl)
theorem dX7_stands_169 : decode cX7_stands 169 = .ok (.iinc 1 1, 3) := dk_132 1 1 (dk_at dksX7_stands_7 2 rfl rfl)
theorem dX7_stands_172 : decode cX7_stands 172 = .ok (.goto (-24), 3) := dk_167 255 232 (dk_at dksX7_stands_7 5 rfl rfl)
theorem dX7_stands_175 : decode cX7_stands 175 = .ok (.iconst 0, 1) := dk_3 (dk_at dksX7_stands_7 8 rfl rfl)
theorem dX7_stands_176 : decode cX7_stands 176 = .ok (.istore_n 1, 1) := dk_60 (dk_at dksX7_stands_7 9 rfl rfl)
theorem dX7_stands_177 : decode cX7_stands 177 = .ok (.iload_n 1, 1) := dk_27 (dk_at dksX7_stands_7 10 rfl rfl)
theorem dX7_stands_178 : decode cX7_stands 178 = .ok (.iconst 2, 1) := dk_5 (dk_at dksX7_stands_7 11 rfl rfl)
theorem dX7_stands_179 : decode cX7_stands 179 = .ok (.if_icmp .ge 23, 3) := dk_162 0 23 (dk_at dksX7_stands_7 12 rfl rfl)
theorem dX7_stands_182 : decode cX7_stands 182 = .ok (.aload_n 0, 1) := dk_42 (dk_at dksX7_stands_7 15 rfl rfl)
theorem dX7_stands_183 : decode cX7_stands 183 = .ok (.getfield 142, 3) := dk_180 0 142 (dk_at dksX7_stands_7 16 rfl rfl)
theorem dX7_stands_186 : decode cX7_stands 186 = .ok (.iconst 2, 1) := dk_5 (dk_at dksX7_stands_7 19 rfl rfl)
theorem dX7_stands_187 : decode cX7_stands 187 = .ok (.iload_n 1, 1) := dk_27 (dk_at dksX7_stands_7 20 rfl rfl)
theorem dX7_stands_188 : decode cX7_stands 188 = .ok (.iadd, 1) := dk_96 (dk_at dksX7_stands_7 21 rfl rfl)
theorem dX7_stands_189 : decode cX7_stands 189 = .ok (.aload_n 0, 1) := dk_42 (dk_at dksX7_stands_7 22 rfl rfl)
theorem dX7_stands_190 : decode cX7_stands 190 = .ok (.getfield 142, 3) := dk_180 0 142 (dk_at dksX7_stands_8 0 rfl rfl)
theorem dX7_stands_193 : decode cX7_stands 193 = .ok (.iload_n 1, 1) := dk_27 (dk_at dksX7_stands_8 3 rfl rfl)
theorem dX7_stands_194 : decode cX7_stands 194 = .ok (.iaload, 1) := dk_46 (dk_at dksX7_stands_8 4 rfl rfl)
theorem dX7_stands_195 : decode cX7_stands 195 = .ok (.iastore, 1) := dk_79 (dk_at dksX7_stands_8 5 rfl rfl)
theorem dX7_stands_196 : decode cX7_stands 196 = .ok (.iinc 1 1, 3) := dk_132 1 1 (dk_at dksX7_stands_8 6 rfl rfl)
theorem dX7_stands_199 : decode cX7_stands 199 = .ok (.goto (-22), 3) := dk_167 255 234 (dk_at dksX7_stands_8 9 rfl rfl)
theorem dX7_stands_202 : decode cX7_stands 202 = .ok (.aload_n 0, 1) := dk_42 (dk_at dksX7_stands_8 12 rfl rfl)
theorem dX7_stands_203 : decode cX7_stands 203 = .ok (.getfield 145, 3) := dk_180 0 145 (dk_at dksX7_stands_8 13 rfl rfl)
theorem dX7_stands_206 : decode cX7_stands 206 = .ok (.iconst 1, 1) := dk_4 (dk_at dksX7_stands_8 16 rfl rfl)
theorem dX7_stands_207 : decode cX7_stands 207 = .ok (.aload_n 0, 1) := dk_42 (dk_at dksX7_stands_8 17 rfl rfl)
theorem dX7_stands_208 : decode cX7_stands 208 = .ok (.getfield 145, 3) := dk_180 0 145 (dk_at dksX7_stands_8 18 rfl rfl)
theorem dX7_stands_211 : decode cX7_stands 211 = .ok (.iconst 0, 1) := dk_3 (dk_at dksX7_stands_8 21 rfl rfl)
theorem dX7_stands_212 : decode cX7_stands 212 = .ok (.iaload, 1) := dk_46 (dk_at dksX7_stands_8 22 rfl rfl)
theorem dX7_stands_213 : decode cX7_stands 213 = .ok (.iastore, 1) := dk_79 (dk_at dksX7_stands_8 23 rfl rfl)
theorem dX7_stands_214 : decode cX7_stands 214 = .ok (.aload_n 0, 1) := dk_42 (dk_at dksX7_stands_9 0 rfl rfl)
theorem dX7_stands_215 : decode cX7_stands 215 = .ok (.getfield 148, 3) := dk_180 0 148 (dk_at dksX7_stands_9 1 rfl rfl)
theorem dX7_stands_218 : decode cX7_stands 218 = .ok (.iconst 1, 1) := dk_4 (dk_at dksX7_stands_9 4 rfl rfl)
theorem dX7_stands_219 : decode cX7_stands 219 = .ok (.aload_n 0, 1) := dk_42 (dk_at dksX7_stands_9 5 rfl rfl)
theorem dX7_stands_220 : decode cX7_stands 220 = .ok (.getfield 148, 3) := dk_180 0 148 (dk_at dksX7_stands_9 6 rfl rfl)
theorem dX7_stands_223 : decode cX7_stands 223 = .ok (.iconst 0, 1) := dk_3 (dk_at dksX7_stands_9 9 rfl rfl)
theorem dX7_stands_224 : decode cX7_stands 224 = .ok (.iaload, 1) := dk_46 (dk_at dksX7_stands_9 10 rfl rfl)
theorem dX7_stands_225 : decode cX7_stands 225 = .ok (.iastore, 1) := dk_79 (dk_at dksX7_stands_9 11 rfl rfl)
theorem dX7_stands_226 : decode cX7_stands 226 = .ok (.iconst 0, 1) := dk_3 (dk_at dksX7_stands_9 12 rfl rfl)
theorem dX7_stands_227 : decode cX7_stands 227 = .ok (.istore_n 1, 1) := dk_60 (dk_at dksX7_stands_9 13 rfl rfl)
theorem dX7_stands_228 : decode cX7_stands 228 = .ok (.iload_n 1, 1) := dk_27 (dk_at dksX7_stands_9 14 rfl rfl)
theorem dX7_stands_229 : decode cX7_stands 229 = .ok (.aload_n 0, 1) := dk_42 (dk_at dksX7_stands_9 15 rfl rfl)
theorem dX7_stands_230 : decode cX7_stands 230 = .ok (.getfield 394, 3) := dk_180 1 138 (dk_at dksX7_stands_9 16 rfl rfl)
theorem dX7_stands_233 : decode cX7_stands 233 = .ok (.if_icmp .ge 25, 3) := dk_162 0 25 (dk_at dksX7_stands_9 19 rfl rfl)
theorem dX7_stands_236 : decode cX7_stands 236 = .ok (.aload_n 0, 1) := dk_42 (dk_at dksX7_stands_9 22 rfl rfl)
theorem dX7_stands_237 : decode cX7_stands 237 = .ok (.getfield 151, 3) := dk_180 0 151 (dk_at dksX7_stands_10 0 rfl rfl)
theorem dX7_stands_240 : decode cX7_stands 240 = .ok (.sipush 1600, 3) := dk_17 6 64 (dk_at dksX7_stands_10 3 rfl rfl)
theorem dX7_stands_243 : decode cX7_stands 243 = .ok (.iload_n 1, 1) := dk_27 (dk_at dksX7_stands_10 6 rfl rfl)
theorem dX7_stands_244 : decode cX7_stands 244 = .ok (.iadd, 1) := dk_96 (dk_at dksX7_stands_10 7 rfl rfl)
theorem dX7_stands_245 : decode cX7_stands 245 = .ok (.aload_n 0, 1) := dk_42 (dk_at dksX7_stands_10 8 rfl rfl)
theorem dX7_stands_246 : decode cX7_stands 246 = .ok (.getfield 151, 3) := dk_180 0 151 (dk_at dksX7_stands_10 9 rfl rfl)
theorem dX7_stands_249 : decode cX7_stands 249 = .ok (.iload_n 1, 1) := dk_27 (dk_at dksX7_stands_10 12 rfl rfl)
theorem dX7_stands_250 : decode cX7_stands 250 = .ok (.iaload, 1) := dk_46 (dk_at dksX7_stands_10 13 rfl rfl)
theorem dX7_stands_251 : decode cX7_stands 251 = .ok (.iastore, 1) := dk_79 (dk_at dksX7_stands_10 14 rfl rfl)
theorem dX7_stands_252 : decode cX7_stands 252 = .ok (.iinc 1 1, 3) := dk_132 1 1 (dk_at dksX7_stands_10 15 rfl rfl)
theorem dX7_stands_255 : decode cX7_stands 255 = .ok (.goto (-27), 3) := dk_167 255 229 (dk_at dksX7_stands_10 18 rfl rfl)
theorem dX7_stands_258 : decode cX7_stands 258 = .ok (.iconst 0, 1) := dk_3 (dk_at dksX7_stands_10 21 rfl rfl)
theorem dX7_stands_259 : decode cX7_stands 259 = .ok (.istore_n 1, 1) := dk_60 (dk_at dksX7_stands_10 22 rfl rfl)
theorem dX7_stands_260 : decode cX7_stands 260 = .ok (.iload_n 1, 1) := dk_27 (dk_at dksX7_stands_10 23 rfl rfl)
theorem dX7_stands_261 : decode cX7_stands 261 = .ok (.sipush 225, 3) := dk_17 0 225 (dk_at dksX7_stands_11 0 rfl rfl)
theorem dX7_stands_264 : decode cX7_stands 264 = .ok (.if_icmp .ge 16, 3) := dk_162 0 16 (dk_at dksX7_stands_11 3 rfl rfl)
theorem dX7_stands_267 : decode cX7_stands 267 = .ok (.aload_n 0, 1) := dk_42 (dk_at dksX7_stands_11 6 rfl rfl)
theorem dX7_stands_268 : decode cX7_stands 268 = .ok (.getfield 154, 3) := dk_180 0 154 (dk_at dksX7_stands_11 7 rfl rfl)
theorem dX7_stands_271 : decode cX7_stands 271 = .ok (.iload_n 1, 1) := dk_27 (dk_at dksX7_stands_11 10 rfl rfl)
theorem dX7_stands_272 : decode cX7_stands 272 = .ok (.iconst 0, 1) := dk_3 (dk_at dksX7_stands_11 11 rfl rfl)
theorem dX7_stands_273 : decode cX7_stands 273 = .ok (.iastore, 1) := dk_79 (dk_at dksX7_stands_11 12 rfl rfl)
theorem dX7_stands_274 : decode cX7_stands 274 = .ok (.iinc 1 1, 3) := dk_132 1 1 (dk_at dksX7_stands_11 13 rfl rfl)
theorem dX7_stands_277 : decode cX7_stands 277 = .ok (.goto (-17), 3) := dk_167 255 239 (dk_at dksX7_stands_11 16 rfl rfl)
theorem dX7_stands_280 : decode cX7_stands 280 = .ok (.iconst 0, 1) := dk_3 (dk_at dksX7_stands_11 19 rfl rfl)
theorem dX7_stands_281 : decode cX7_stands 281 = .ok (.istore_n 1, 1) := dk_60 (dk_at dksX7_stands_11 20 rfl rfl)
theorem dX7_stands_282 : decode cX7_stands 282 = .ok (.iload_n 1, 1) := dk_27 (dk_at dksX7_stands_11 21 rfl rfl)
theorem dX7_stands_283 : decode cX7_stands 283 = .ok (.iconst 2, 1) := dk_5 (dk_at dksX7_stands_11 22 rfl rfl)
theorem dX7_stands_284 : decode cX7_stands 284 = .ok (.aload_n 0, 1) := dk_42 (dk_at dksX7_stands_11 23 rfl rfl)
theorem dX7_stands_285 : decode cX7_stands 285 = .ok (.getfield 120, 3) := dk_180 0 120 (dk_at dksX7_stands_12 0 rfl rfl)
theorem dX7_stands_288 : decode cX7_stands 288 = .ok (.iconst 1, 1) := dk_4 (dk_at dksX7_stands_12 3 rfl rfl)
theorem dX7_stands_289 : decode cX7_stands 289 = .ok (.iaload, 1) := dk_46 (dk_at dksX7_stands_12 4 rfl rfl)
theorem dX7_stands_290 : decode cX7_stands 290 = .ok (.imul, 1) := dk_104 (dk_at dksX7_stands_12 5 rfl rfl)
theorem dX7_stands_291 : decode cX7_stands 291 = .ok (.if_icmp .ge 23, 3) := dk_162 0 23 (dk_at dksX7_stands_12 6 rfl rfl)
theorem dX7_stands_294 : decode cX7_stands 294 = .ok (.aload_n 0, 1) := dk_42 (dk_at dksX7_stands_12 9 rfl rfl)
theorem dX7_stands_295 : decode cX7_stands 295 = .ok (.getfield 154, 3) := dk_180 0 154 (dk_at dksX7_stands_12 10 rfl rfl)
theorem dX7_stands_298 : decode cX7_stands 298 = .ok (.iconst 2, 1) := dk_5 (dk_at dksX7_stands_12 13 rfl rfl)
theorem dX7_stands_299 : decode cX7_stands 299 = .ok (.iload_n 1, 1) := dk_27 (dk_at dksX7_stands_12 14 rfl rfl)
theorem dX7_stands_300 : decode cX7_stands 300 = .ok (.iadd, 1) := dk_96 (dk_at dksX7_stands_12 15 rfl rfl)
theorem dX7_stands_301 : decode cX7_stands 301 = .ok (.aload_n 0, 1) := dk_42 (dk_at dksX7_stands_12 16 rfl rfl)
theorem dX7_stands_302 : decode cX7_stands 302 = .ok (.getfield 136, 3) := dk_180 0 136 (dk_at dksX7_stands_12 17 rfl rfl)
theorem dX7_stands_305 : decode cX7_stands 305 = .ok (.iload_n 1, 1) := dk_27 (dk_at dksX7_stands_12 20 rfl rfl)
theorem dX7_stands_306 : decode cX7_stands 306 = .ok (.iaload, 1) := dk_46 (dk_at dksX7_stands_12 21 rfl rfl)
theorem dX7_stands_307 : decode cX7_stands 307 = .ok (.iastore, 1) := dk_79 (dk_at dksX7_stands_12 22 rfl rfl)
theorem dX7_stands_308 : decode cX7_stands 308 = .ok (.iinc 1 1, 3) := dk_132 1 1 (dk_at dksX7_stands_13 0 rfl rfl)
theorem dX7_stands_311 : decode cX7_stands 311 = .ok (.goto (-29), 3) := dk_167 255 227 (dk_at dksX7_stands_13 3 rfl rfl)
theorem dX7_stands_314 : decode cX7_stands 314 = .ok (.iconst 0, 1) := dk_3 (dk_at dksX7_stands_13 6 rfl rfl)
theorem dX7_stands_315 : decode cX7_stands 315 = .ok (.istore_n 1, 1) := dk_60 (dk_at dksX7_stands_13 7 rfl rfl)
theorem dX7_stands_316 : decode cX7_stands 316 = .ok (.iload_n 1, 1) := dk_27 (dk_at dksX7_stands_13 8 rfl rfl)
theorem dX7_stands_317 : decode cX7_stands 317 = .ok (.aload_n 0, 1) := dk_42 (dk_at dksX7_stands_13 9 rfl rfl)
theorem dX7_stands_318 : decode cX7_stands 318 = .ok (.getfield 120, 3) := dk_180 0 120 (dk_at dksX7_stands_13 10 rfl rfl)
theorem dX7_stands_321 : decode cX7_stands 321 = .ok (.iconst 2, 1) := dk_5 (dk_at dksX7_stands_13 13 rfl rfl)
theorem dX7_stands_322 : decode cX7_stands 322 = .ok (.iaload, 1) := dk_46 (dk_at dksX7_stands_13 14 rfl rfl)
theorem dX7_stands_323 : decode cX7_stands 323 = .ok (.if_icmp .ge 28, 3) := dk_162 0 28 (dk_at dksX7_stands_13 15 rfl rfl)
theorem dX7_stands_326 : decode cX7_stands 326 = .ok (.aload_n 0, 1) := dk_42 (dk_at dksX7_stands_13 18 rfl rfl)
theorem dX7_stands_327 : decode cX7_stands 327 = .ok (.getfield 154, 3) := dk_180 0 154 (dk_at dksX7_stands_13 19 rfl rfl)
theorem dX7_stands_330 : decode cX7_stands 330 = .ok (.bipush 18, 2) := dk_16 18 (dk_at dksX7_stands_13 22 rfl rfl)
theorem dX7_stands_332 : decode cX7_stands 332 = .ok (.iload_n 1, 1) := dk_27 (dk_at dksX7_stands_14 0 rfl rfl)
theorem dX7_stands_333 : decode cX7_stands 333 = .ok (.iadd, 1) := dk_96 (dk_at dksX7_stands_14 1 rfl rfl)
theorem dX7_stands_334 : decode cX7_stands 334 = .ok (.aload_n 0, 1) := dk_42 (dk_at dksX7_stands_14 2 rfl rfl)
theorem dX7_stands_335 : decode cX7_stands 335 = .ok (.getfield 139, 3) := dk_180 0 139 (dk_at dksX7_stands_14 3 rfl rfl)
theorem dX7_stands_338 : decode cX7_stands 338 = .ok (.iconst 3, 1) := dk_6 (dk_at dksX7_stands_14 6 rfl rfl)
theorem dX7_stands_339 : decode cX7_stands 339 = .ok (.iload_n 1, 1) := dk_27 (dk_at dksX7_stands_14 7 rfl rfl)
theorem dX7_stands_340 : decode cX7_stands 340 = .ok (.imul, 1) := dk_104 (dk_at dksX7_stands_14 8 rfl rfl)
theorem dX7_stands_341 : decode cX7_stands 341 = .ok (.iconst 2, 1) := dk_5 (dk_at dksX7_stands_14 9 rfl rfl)
theorem dX7_stands_342 : decode cX7_stands 342 = .ok (.iadd, 1) := dk_96 (dk_at dksX7_stands_14 10 rfl rfl)
theorem dX7_stands_343 : decode cX7_stands 343 = .ok (.iaload, 1) := dk_46 (dk_at dksX7_stands_14 11 rfl rfl)
theorem dX7_stands_344 : decode cX7_stands 344 = .ok (.iastore, 1) := dk_79 (dk_at dksX7_stands_14 12 rfl rfl)
theorem dX7_stands_345 : decode cX7_stands 345 = .ok (.iinc 1 1, 3) := dk_132 1 1 (dk_at dksX7_stands_14 13 rfl rfl)
theorem dX7_stands_348 : decode cX7_stands 348 = .ok (.goto (-32), 3) := dk_167 255 224 (dk_at dksX7_stands_14 16 rfl rfl)
theorem dX7_stands_351 : decode cX7_stands 351 = .ok (.aload_n 0, 1) := dk_42 (dk_at dksX7_stands_14 19 rfl rfl)
theorem dX7_stands_352 : decode cX7_stands 352 = .ok (.iconst 0, 1) := dk_3 (dk_at dksX7_stands_14 20 rfl rfl)
theorem dX7_stands_353 : decode cX7_stands 353 = .ok (.putfield 427, 3) := dk_181 1 171 (dk_at dksX7_stands_14 21 rfl rfl)
theorem dX7_stands_356 : decode cX7_stands 356 = .ok (.aload_n 0, 1) := dk_42 (dk_at dksX7_stands_15 0 rfl rfl)
theorem dX7_stands_357 : decode cX7_stands 357 = .ok (.iconst 0, 1) := dk_3 (dk_at dksX7_stands_15 1 rfl rfl)
theorem dX7_stands_358 : decode cX7_stands 358 = .ok (.putfield 430, 3) := dk_181 1 174 (dk_at dksX7_stands_15 2 rfl rfl)
theorem dX7_stands_361 : decode cX7_stands 361 = .ok (.return_, 1) := dk_177 (dk_at dksX7_stands_15 5 rfl rfl)
abbrev cX7_fault : ByteArray := prog_25_method_31_code
def yX7_fault : MethodName := ⟨RX7, "fault", "(I)I"⟩
def dkwX7_fault_1 : List UInt8 := [172]
abbrev dktX7_fault_1 : List UInt8 := dkwX7_fault_1 ++ []
def dkwX7_fault_0 : List UInt8 := [27, 154, 0, 10, 42, 180, 1, 162, 167, 0, 16, 27, 4, 160, 0, 10, 42, 180, 0, 13, 167, 0, 4, 2]
abbrev dktX7_fault_0 : List UInt8 := dkwX7_fault_0 ++ dktX7_fault_1
theorem dksX7_fault_0 : cX7_fault.data.toList.drop 0 = dktX7_fault_0 := by decide +kernel
theorem dksX7_fault_1 : cX7_fault.data.toList.drop 24 = dktX7_fault_1 := dk_seg dksX7_fault_0 24 rfl rfl
theorem dX7_fault_0 : decode cX7_fault 0 = .ok (.iload_n 1, 1) := dk_27 (dk_at dksX7_fault_0 0 rfl rfl)
theorem dX7_fault_1 : decode cX7_fault 1 = .ok (.ifCond .ne 10, 3) := dk_154 0 10 (dk_at dksX7_fault_0 1 rfl rfl)
theorem dX7_fault_4 : decode cX7_fault 4 = .ok (.aload_n 0, 1) := dk_42 (dk_at dksX7_fault_0 4 rfl rfl)
theorem dX7_fault_5 : decode cX7_fault 5 = .ok (.getfield 418, 3) := dk_180 1 162 (dk_at dksX7_fault_0 5 rfl rfl)
theorem dX7_fault_8 : decode cX7_fault 8 = .ok (.goto 16, 3) := dk_167 0 16 (dk_at dksX7_fault_0 8 rfl rfl)
theorem dX7_fault_11 : decode cX7_fault 11 = .ok (.iload_n 1, 1) := dk_27 (dk_at dksX7_fault_0 11 rfl rfl)
theorem dX7_fault_12 : decode cX7_fault 12 = .ok (.iconst 1, 1) := dk_4 (dk_at dksX7_fault_0 12 rfl rfl)
theorem dX7_fault_13 : decode cX7_fault 13 = .ok (.if_icmp .ne 10, 3) := dk_160 0 10 (dk_at dksX7_fault_0 13 rfl rfl)
theorem dX7_fault_16 : decode cX7_fault 16 = .ok (.aload_n 0, 1) := dk_42 (dk_at dksX7_fault_0 16 rfl rfl)
theorem dX7_fault_17 : decode cX7_fault 17 = .ok (.getfield 13, 3) := dk_180 0 13 (dk_at dksX7_fault_0 17 rfl rfl)
theorem dX7_fault_20 : decode cX7_fault 20 = .ok (.goto 4, 3) := dk_167 0 4 (dk_at dksX7_fault_0 20 rfl rfl)
theorem dX7_fault_23 : decode cX7_fault 23 = .ok (.iconst (-1), 1) := dk_2 (dk_at dksX7_fault_0 23 rfl rfl)
theorem dX7_fault_24 : decode cX7_fault 24 = .ok (.ireturn, 1) := dk_172 (dk_at dksX7_fault_1 0 rfl rfl)
abbrev cX7_has : ByteArray := prog_25_method_79_code
def yX7_has : MethodName := ⟨RX7, "has", "(I)I"⟩
def dkwX7_has_5 : List UInt8 := [180, 0, 154, 16, 24, 46, 172, 42, 180, 1, 174, 172, 42, 180, 1, 171, 172, 2, 172]
abbrev dktX7_has_5 : List UInt8 := dkwX7_has_5 ++ []
def dkwX7_has_4 : List UInt8 := [172, 42, 182, 1, 177, 42, 3, 182, 2, 75, 100, 42, 4, 182, 2, 75, 100, 172, 42, 182, 2, 78, 172, 42]
abbrev dktX7_has_4 : List UInt8 := dkwX7_has_4 ++ dktX7_has_5
def dkwX7_has_3 : List UInt8 := [27, 8, 100, 46, 172, 42, 180, 1, 168, 153, 0, 14, 42, 182, 2, 72, 153, 0, 7, 4, 167, 0, 4, 3]
abbrev dktX7_has_3 : List UInt8 := dkwX7_has_3 ++ dktX7_has_4
def dkwX7_has_2 : List UInt8 := [42, 180, 0, 127, 7, 27, 96, 46, 172, 42, 180, 0, 120, 6, 27, 96, 5, 100, 46, 172, 42, 180, 0, 154]
abbrev dktX7_has_2 : List UInt8 := dkwX7_has_2 ++ dktX7_has_3
def dkwX7_has_1 : List UInt8 := [170, 0, 0, 0, 0, 0, 156, 0, 0, 0, 0, 0, 0, 0, 12, 0, 0, 0, 67, 0, 0, 0, 67, 0, 0, 0, 76, 0, 0, 0, 76, 0, 0, 0, 76, 0, 0, 0, 87, 0, 0, 0, 87, 0, 0, 0, 96, 0, 0, 0, 116, 0, 0, 0, 133, 0, 0, 0, 138, 0, 0, 0, 146, 0, 0, 0, 151]
abbrev dktX7_has_1 : List UInt8 := dkwX7_has_1 ++ dktX7_has_2
def dkwX7_has_0 : List UInt8 := [27]
abbrev dktX7_has_0 : List UInt8 := dkwX7_has_0 ++ dktX7_has_1
theorem dksX7_has_0 : cX7_has.data.toList.drop 0 = dktX7_has_0 := by decide +kernel
theorem dksX7_has_1 : cX7_has.data.toList.drop 1 = dktX7_has_1 := dk_seg dksX7_has_0 1 rfl rfl
theorem dksX7_has_2 : cX7_has.data.toList.drop 68 = dktX7_has_2 := dk_seg dksX7_has_1 67 rfl rfl
theorem dksX7_has_3 : cX7_has.data.toList.drop 92 = dktX7_has_3 := dk_seg dksX7_has_2 24 rfl rfl
theorem dksX7_has_4 : cX7_has.data.toList.drop 116 = dktX7_has_4 := dk_seg dksX7_has_3 24 rfl rfl
theorem dksX7_has_5 : cX7_has.data.toList.drop 140 = dktX7_has_5 := dk_seg dksX7_has_4 24 rfl rfl
theorem dX7_has_0 : decode cX7_has 0 = .ok (.iload_n 1, 1) := dk_27 (dk_at dksX7_has_0 0 rfl rfl)
theorem dX7_has_1 : decode cX7_has 1 = .ok (.tableswitch 156 0 12 #[67, 67, 76, 76, 76, 87, 87, 96, 116, 133, 138, 146, 151], 67) := by decide +kernel
theorem dX7_has_68 : decode cX7_has 68 = .ok (.aload_n 0, 1) := dk_42 (dk_at dksX7_has_2 0 rfl rfl)
theorem dX7_has_69 : decode cX7_has 69 = .ok (.getfield 127, 3) := dk_180 0 127 (dk_at dksX7_has_2 1 rfl rfl)
theorem dX7_has_72 : decode cX7_has 72 = .ok (.iconst 4, 1) := dk_7 (dk_at dksX7_has_2 4 rfl rfl)
theorem dX7_has_73 : decode cX7_has 73 = .ok (.iload_n 1, 1) := dk_27 (dk_at dksX7_has_2 5 rfl rfl)
theorem dX7_has_74 : decode cX7_has 74 = .ok (.iadd, 1) := dk_96 (dk_at dksX7_has_2 6 rfl rfl)
theorem dX7_has_75 : decode cX7_has 75 = .ok (.iaload, 1) := dk_46 (dk_at dksX7_has_2 7 rfl rfl)
theorem dX7_has_76 : decode cX7_has 76 = .ok (.ireturn, 1) := dk_172 (dk_at dksX7_has_2 8 rfl rfl)
theorem dX7_has_77 : decode cX7_has 77 = .ok (.aload_n 0, 1) := dk_42 (dk_at dksX7_has_2 9 rfl rfl)
theorem dX7_has_78 : decode cX7_has 78 = .ok (.getfield 120, 3) := dk_180 0 120 (dk_at dksX7_has_2 10 rfl rfl)
theorem dX7_has_81 : decode cX7_has 81 = .ok (.iconst 3, 1) := dk_6 (dk_at dksX7_has_2 13 rfl rfl)
theorem dX7_has_82 : decode cX7_has 82 = .ok (.iload_n 1, 1) := dk_27 (dk_at dksX7_has_2 14 rfl rfl)
theorem dX7_has_83 : decode cX7_has 83 = .ok (.iadd, 1) := dk_96 (dk_at dksX7_has_2 15 rfl rfl)
theorem dX7_has_84 : decode cX7_has 84 = .ok (.iconst 2, 1) := dk_5 (dk_at dksX7_has_2 16 rfl rfl)
theorem dX7_has_85 : decode cX7_has 85 = .ok (.isub, 1) := dk_100 (dk_at dksX7_has_2 17 rfl rfl)
theorem dX7_has_86 : decode cX7_has 86 = .ok (.iaload, 1) := dk_46 (dk_at dksX7_has_2 18 rfl rfl)
theorem dX7_has_87 : decode cX7_has 87 = .ok (.ireturn, 1) := dk_172 (dk_at dksX7_has_2 19 rfl rfl)
theorem dX7_has_88 : decode cX7_has 88 = .ok (.aload_n 0, 1) := dk_42 (dk_at dksX7_has_2 20 rfl rfl)
theorem dX7_has_89 : decode cX7_has 89 = .ok (.getfield 154, 3) := dk_180 0 154 (dk_at dksX7_has_2 21 rfl rfl)
theorem dX7_has_92 : decode cX7_has 92 = .ok (.iload_n 1, 1) := dk_27 (dk_at dksX7_has_3 0 rfl rfl)
theorem dX7_has_93 : decode cX7_has 93 = .ok (.iconst 5, 1) := dk_8 (dk_at dksX7_has_3 1 rfl rfl)
theorem dX7_has_94 : decode cX7_has 94 = .ok (.isub, 1) := dk_100 (dk_at dksX7_has_3 2 rfl rfl)
theorem dX7_has_95 : decode cX7_has 95 = .ok (.iaload, 1) := dk_46 (dk_at dksX7_has_3 3 rfl rfl)
theorem dX7_has_96 : decode cX7_has 96 = .ok (.ireturn, 1) := dk_172 (dk_at dksX7_has_3 4 rfl rfl)
theorem dX7_has_97 : decode cX7_has 97 = .ok (.aload_n 0, 1) := dk_42 (dk_at dksX7_has_3 5 rfl rfl)
theorem dX7_has_98 : decode cX7_has 98 = .ok (.getfield 424, 3) := dk_180 1 168 (dk_at dksX7_has_3 6 rfl rfl)
theorem dX7_has_101 : decode cX7_has 101 = .ok (.ifCond .eq 14, 3) := dk_153 0 14 (dk_at dksX7_has_3 9 rfl rfl)
theorem dX7_has_104 : decode cX7_has 104 = .ok (.aload_n 0, 1) := dk_42 (dk_at dksX7_has_3 12 rfl rfl)
theorem dX7_has_105 : decode cX7_has 105 = .ok (.invokevirtual 584, 3) := dk_182 2 72 (dk_at dksX7_has_3 13 rfl rfl)
theorem dX7_has_108 : decode cX7_has 108 = .ok (.ifCond .eq 7, 3) := dk_153 0 7 (dk_at dksX7_has_3 16 rfl rfl)
theorem dX7_has_111 : decode cX7_has 111 = .ok (.iconst 1, 1) := dk_4 (dk_at dksX7_has_3 19 rfl rfl)
theorem dX7_has_112 : decode cX7_has 112 = .ok (.goto 4, 3) := dk_167 0 4 (dk_at dksX7_has_3 20 rfl rfl)
theorem dX7_has_115 : decode cX7_has 115 = .ok (.iconst 0, 1) := dk_3 (dk_at dksX7_has_3 23 rfl rfl)
theorem dX7_has_116 : decode cX7_has 116 = .ok (.ireturn, 1) := dk_172 (dk_at dksX7_has_4 0 rfl rfl)
theorem dX7_has_117 : decode cX7_has 117 = .ok (.aload_n 0, 1) := dk_42 (dk_at dksX7_has_4 1 rfl rfl)
theorem dX7_has_118 : decode cX7_has 118 = .ok (.invokevirtual 433, 3) := dk_182 1 177 (dk_at dksX7_has_4 2 rfl rfl)
theorem dX7_has_121 : decode cX7_has 121 = .ok (.aload_n 0, 1) := dk_42 (dk_at dksX7_has_4 5 rfl rfl)
theorem dX7_has_122 : decode cX7_has 122 = .ok (.iconst 0, 1) := dk_3 (dk_at dksX7_has_4 6 rfl rfl)
theorem dX7_has_123 : decode cX7_has 123 = .ok (.invokevirtual 587, 3) := dk_182 2 75 (dk_at dksX7_has_4 7 rfl rfl)
theorem dX7_has_126 : decode cX7_has 126 = .ok (.isub, 1) := dk_100 (dk_at dksX7_has_4 10 rfl rfl)
theorem dX7_has_127 : decode cX7_has 127 = .ok (.aload_n 0, 1) := dk_42 (dk_at dksX7_has_4 11 rfl rfl)
theorem dX7_has_128 : decode cX7_has 128 = .ok (.iconst 1, 1) := dk_4 (dk_at dksX7_has_4 12 rfl rfl)
theorem dX7_has_129 : decode cX7_has 129 = .ok (.invokevirtual 587, 3) := dk_182 2 75 (dk_at dksX7_has_4 13 rfl rfl)
theorem dX7_has_132 : decode cX7_has 132 = .ok (.isub, 1) := dk_100 (dk_at dksX7_has_4 16 rfl rfl)
theorem dX7_has_133 : decode cX7_has 133 = .ok (.ireturn, 1) := dk_172 (dk_at dksX7_has_4 17 rfl rfl)
theorem dX7_has_134 : decode cX7_has 134 = .ok (.aload_n 0, 1) := dk_42 (dk_at dksX7_has_4 18 rfl rfl)
theorem dX7_has_135 : decode cX7_has 135 = .ok (.invokevirtual 590, 3) := dk_182 2 78 (dk_at dksX7_has_4 19 rfl rfl)
theorem dX7_has_138 : decode cX7_has 138 = .ok (.ireturn, 1) := dk_172 (dk_at dksX7_has_4 22 rfl rfl)
theorem dX7_has_139 : decode cX7_has 139 = .ok (.aload_n 0, 1) := dk_42 (dk_at dksX7_has_4 23 rfl rfl)
theorem dX7_has_140 : decode cX7_has 140 = .ok (.getfield 154, 3) := dk_180 0 154 (dk_at dksX7_has_5 0 rfl rfl)
theorem dX7_has_143 : decode cX7_has 143 = .ok (.bipush 24, 2) := dk_16 24 (dk_at dksX7_has_5 3 rfl rfl)
theorem dX7_has_145 : decode cX7_has 145 = .ok (.iaload, 1) := dk_46 (dk_at dksX7_has_5 5 rfl rfl)
theorem dX7_has_146 : decode cX7_has 146 = .ok (.ireturn, 1) := dk_172 (dk_at dksX7_has_5 6 rfl rfl)
theorem dX7_has_147 : decode cX7_has 147 = .ok (.aload_n 0, 1) := dk_42 (dk_at dksX7_has_5 7 rfl rfl)
theorem dX7_has_148 : decode cX7_has 148 = .ok (.getfield 430, 3) := dk_180 1 174 (dk_at dksX7_has_5 8 rfl rfl)
theorem dX7_has_151 : decode cX7_has 151 = .ok (.ireturn, 1) := dk_172 (dk_at dksX7_has_5 11 rfl rfl)
theorem dX7_has_152 : decode cX7_has 152 = .ok (.aload_n 0, 1) := dk_42 (dk_at dksX7_has_5 12 rfl rfl)
theorem dX7_has_153 : decode cX7_has 153 = .ok (.getfield 427, 3) := dk_180 1 171 (dk_at dksX7_has_5 13 rfl rfl)
theorem dX7_has_156 : decode cX7_has 156 = .ok (.ireturn, 1) := dk_172 (dk_at dksX7_has_5 16 rfl rfl)
theorem dX7_has_157 : decode cX7_has 157 = .ok (.iconst (-1), 1) := dk_2 (dk_at dksX7_has_5 17 rfl rfl)
theorem dX7_has_158 : decode cX7_has 158 = .ok (.ireturn, 1) := dk_172 (dk_at dksX7_has_5 18 rfl rfl)
abbrev cX7_isOver : ByteArray := prog_25_method_53_code
def yX7_isOver : MethodName := ⟨RX7, "isOver", "()Z"⟩
def dkwX7_isOver_0 : List UInt8 := [42, 182, 1, 228, 154, 0, 10, 42, 182, 1, 231, 154, 0, 7, 4, 167, 0, 4, 3, 172]
abbrev dktX7_isOver_0 : List UInt8 := dkwX7_isOver_0 ++ []
theorem dksX7_isOver_0 : cX7_isOver.data.toList.drop 0 = dktX7_isOver_0 := by decide +kernel
theorem dX7_isOver_0 : decode cX7_isOver 0 = .ok (.aload_n 0, 1) := dk_42 (dk_at dksX7_isOver_0 0 rfl rfl)
theorem dX7_isOver_1 : decode cX7_isOver 1 = .ok (.invokevirtual 484, 3) := dk_182 1 228 (dk_at dksX7_isOver_0 1 rfl rfl)
theorem dX7_isOver_4 : decode cX7_isOver 4 = .ok (.ifCond .ne 10, 3) := dk_154 0 10 (dk_at dksX7_isOver_0 4 rfl rfl)
theorem dX7_isOver_7 : decode cX7_isOver 7 = .ok (.aload_n 0, 1) := dk_42 (dk_at dksX7_isOver_0 7 rfl rfl)
theorem dX7_isOver_8 : decode cX7_isOver 8 = .ok (.invokevirtual 487, 3) := dk_182 1 231 (dk_at dksX7_isOver_0 8 rfl rfl)
theorem dX7_isOver_11 : decode cX7_isOver 11 = .ok (.ifCond .ne 7, 3) := dk_154 0 7 (dk_at dksX7_isOver_0 11 rfl rfl)
theorem dX7_isOver_14 : decode cX7_isOver 14 = .ok (.iconst 1, 1) := dk_4 (dk_at dksX7_isOver_0 14 rfl rfl)
theorem dX7_isOver_15 : decode cX7_isOver 15 = .ok (.goto 4, 3) := dk_167 0 4 (dk_at dksX7_isOver_0 15 rfl rfl)
theorem dX7_isOver_18 : decode cX7_isOver 18 = .ok (.iconst 0, 1) := dk_3 (dk_at dksX7_isOver_0 18 rfl rfl)
theorem dX7_isOver_19 : decode cX7_isOver 19 = .ok (.ireturn, 1) := dk_172 (dk_at dksX7_isOver_0 19 rfl rfl)
abbrev cX7_isCrownTaken : ByteArray := prog_25_method_52_code
def yX7_isCrownTaken : MethodName := ⟨RX7, "isCrownTaken", "()Z"⟩
def dkwX7_isCrownTaken_1 : List UInt8 := [153, 0, 5, 4, 172, 132, 1, 1, 167, 255, 227, 3, 172]
abbrev dktX7_isCrownTaken_1 : List UInt8 := dkwX7_isCrownTaken_1 ++ []
def dkwX7_isCrownTaken_0 : List UInt8 := [3, 60, 27, 42, 182, 1, 177, 162, 0, 27, 42, 27, 182, 1, 225, 153, 0, 13, 42, 27, 182, 1, 202]
abbrev dktX7_isCrownTaken_0 : List UInt8 := dkwX7_isCrownTaken_0 ++ dktX7_isCrownTaken_1
theorem dksX7_isCrownTaken_0 : cX7_isCrownTaken.data.toList.drop 0 = dktX7_isCrownTaken_0 := by decide +kernel
theorem dksX7_isCrownTaken_1 : cX7_isCrownTaken.data.toList.drop 23 = dktX7_isCrownTaken_1 := dk_seg dksX7_isCrownTaken_0 23 rfl rfl
theorem dX7_isCrownTaken_0 : decode cX7_isCrownTaken 0 = .ok (.iconst 0, 1) := dk_3 (dk_at dksX7_isCrownTaken_0 0 rfl rfl)
theorem dX7_isCrownTaken_1 : decode cX7_isCrownTaken 1 = .ok (.istore_n 1, 1) := dk_60 (dk_at dksX7_isCrownTaken_0 1 rfl rfl)
theorem dX7_isCrownTaken_2 : decode cX7_isCrownTaken 2 = .ok (.iload_n 1, 1) := dk_27 (dk_at dksX7_isCrownTaken_0 2 rfl rfl)
theorem dX7_isCrownTaken_3 : decode cX7_isCrownTaken 3 = .ok (.aload_n 0, 1) := dk_42 (dk_at dksX7_isCrownTaken_0 3 rfl rfl)
theorem dX7_isCrownTaken_4 : decode cX7_isCrownTaken 4 = .ok (.invokevirtual 433, 3) := dk_182 1 177 (dk_at dksX7_isCrownTaken_0 4 rfl rfl)
theorem dX7_isCrownTaken_7 : decode cX7_isCrownTaken 7 = .ok (.if_icmp .ge 27, 3) := dk_162 0 27 (dk_at dksX7_isCrownTaken_0 7 rfl rfl)
theorem dX7_isCrownTaken_10 : decode cX7_isCrownTaken 10 = .ok (.aload_n 0, 1) := dk_42 (dk_at dksX7_isCrownTaken_0 10 rfl rfl)
theorem dX7_isCrownTaken_11 : decode cX7_isCrownTaken 11 = .ok (.iload_n 1, 1) := dk_27 (dk_at dksX7_isCrownTaken_0 11 rfl rfl)
theorem dX7_isCrownTaken_12 : decode cX7_isCrownTaken 12 = .ok (.invokevirtual 481, 3) := dk_182 1 225 (dk_at dksX7_isCrownTaken_0 12 rfl rfl)
theorem dX7_isCrownTaken_15 : decode cX7_isCrownTaken 15 = .ok (.ifCond .eq 13, 3) := dk_153 0 13 (dk_at dksX7_isCrownTaken_0 15 rfl rfl)
theorem dX7_isCrownTaken_18 : decode cX7_isCrownTaken 18 = .ok (.aload_n 0, 1) := dk_42 (dk_at dksX7_isCrownTaken_0 18 rfl rfl)
theorem dX7_isCrownTaken_19 : decode cX7_isCrownTaken 19 = .ok (.iload_n 1, 1) := dk_27 (dk_at dksX7_isCrownTaken_0 19 rfl rfl)
theorem dX7_isCrownTaken_20 : decode cX7_isCrownTaken 20 = .ok (.invokevirtual 458, 3) := dk_182 1 202 (dk_at dksX7_isCrownTaken_0 20 rfl rfl)
theorem dX7_isCrownTaken_23 : decode cX7_isCrownTaken 23 = .ok (.ifCond .eq 5, 3) := dk_153 0 5 (dk_at dksX7_isCrownTaken_1 0 rfl rfl)
theorem dX7_isCrownTaken_26 : decode cX7_isCrownTaken 26 = .ok (.iconst 1, 1) := dk_4 (dk_at dksX7_isCrownTaken_1 3 rfl rfl)
theorem dX7_isCrownTaken_27 : decode cX7_isCrownTaken 27 = .ok (.ireturn, 1) := dk_172 (dk_at dksX7_isCrownTaken_1 4 rfl rfl)
theorem dX7_isCrownTaken_28 : decode cX7_isCrownTaken 28 = .ok (.iinc 1 1, 3) := dk_132 1 1 (dk_at dksX7_isCrownTaken_1 5 rfl rfl)
theorem dX7_isCrownTaken_31 : decode cX7_isCrownTaken 31 = .ok (.goto (-29), 3) := dk_167 255 227 (dk_at dksX7_isCrownTaken_1 8 rfl rfl)
theorem dX7_isCrownTaken_34 : decode cX7_isCrownTaken 34 = .ok (.iconst 0, 1) := dk_3 (dk_at dksX7_isCrownTaken_1 11 rfl rfl)
theorem dX7_isCrownTaken_35 : decode cX7_isCrownTaken 35 = .ok (.ireturn, 1) := dk_172 (dk_at dksX7_isCrownTaken_1 12 rfl rfl)
abbrev cX7_manMany : ByteArray := prog_25_method_32_code
def yX7_manMany : MethodName := ⟨RX7, "manMany", "()I"⟩
def dkwX7_manMany_0 : List UInt8 := [42, 180, 0, 120, 7, 46, 172]
abbrev dktX7_manMany_0 : List UInt8 := dkwX7_manMany_0 ++ []
theorem dksX7_manMany_0 : cX7_manMany.data.toList.drop 0 = dktX7_manMany_0 := by decide +kernel
theorem dX7_manMany_0 : decode cX7_manMany 0 = .ok (.aload_n 0, 1) := dk_42 (dk_at dksX7_manMany_0 0 rfl rfl)
theorem dX7_manMany_1 : decode cX7_manMany 1 = .ok (.getfield 120, 3) := dk_180 0 120 (dk_at dksX7_manMany_0 1 rfl rfl)
theorem dX7_manMany_4 : decode cX7_manMany 4 = .ok (.iconst 4, 1) := dk_7 (dk_at dksX7_manMany_0 4 rfl rfl)
theorem dX7_manMany_5 : decode cX7_manMany 5 = .ok (.iaload, 1) := dk_46 (dk_at dksX7_manMany_0 5 rfl rfl)
theorem dX7_manMany_6 : decode cX7_manMany 6 = .ok (.ireturn, 1) := dk_172 (dk_at dksX7_manMany_0 6 rfl rfl)
abbrev cX7_isCrown : ByteArray := prog_25_method_42_code
def yX7_isCrown : MethodName := ⟨RX7, "isCrown", "(I)Z"⟩
def dkwX7_isCrown_1 : List UInt8 := [172]
abbrev dktX7_isCrown_1 : List UInt8 := dkwX7_isCrown_1 ++ []
def dkwX7_isCrown_0 : List UInt8 := [42, 180, 0, 130, 16, 23, 7, 42, 27, 182, 1, 187, 104, 96, 46, 4, 160, 0, 7, 4, 167, 0, 4, 3]
abbrev dktX7_isCrown_0 : List UInt8 := dkwX7_isCrown_0 ++ dktX7_isCrown_1
theorem dksX7_isCrown_0 : cX7_isCrown.data.toList.drop 0 = dktX7_isCrown_0 := by decide +kernel
theorem dksX7_isCrown_1 : cX7_isCrown.data.toList.drop 24 = dktX7_isCrown_1 := dk_seg dksX7_isCrown_0 24 rfl rfl
theorem dX7_isCrown_0 : decode cX7_isCrown 0 = .ok (.aload_n 0, 1) := dk_42 (dk_at dksX7_isCrown_0 0 rfl rfl)
theorem dX7_isCrown_1 : decode cX7_isCrown 1 = .ok (.getfield 130, 3) := dk_180 0 130 (dk_at dksX7_isCrown_0 1 rfl rfl)
theorem dX7_isCrown_4 : decode cX7_isCrown 4 = .ok (.bipush 23, 2) := dk_16 23 (dk_at dksX7_isCrown_0 4 rfl rfl)
theorem dX7_isCrown_6 : decode cX7_isCrown 6 = .ok (.iconst 4, 1) := dk_7 (dk_at dksX7_isCrown_0 6 rfl rfl)
theorem dX7_isCrown_7 : decode cX7_isCrown 7 = .ok (.aload_n 0, 1) := dk_42 (dk_at dksX7_isCrown_0 7 rfl rfl)
theorem dX7_isCrown_8 : decode cX7_isCrown 8 = .ok (.iload_n 1, 1) := dk_27 (dk_at dksX7_isCrown_0 8 rfl rfl)
theorem dX7_isCrown_9 : decode cX7_isCrown 9 = .ok (.invokevirtual 443, 3) := dk_182 1 187 (dk_at dksX7_isCrown_0 9 rfl rfl)
theorem dX7_isCrown_12 : decode cX7_isCrown 12 = .ok (.imul, 1) := dk_104 (dk_at dksX7_isCrown_0 12 rfl rfl)
theorem dX7_isCrown_13 : decode cX7_isCrown 13 = .ok (.iadd, 1) := dk_96 (dk_at dksX7_isCrown_0 13 rfl rfl)
theorem dX7_isCrown_14 : decode cX7_isCrown 14 = .ok (.iaload, 1) := dk_46 (dk_at dksX7_isCrown_0 14 rfl rfl)
theorem dX7_isCrown_15 : decode cX7_isCrown 15 = .ok (.iconst 1, 1) := dk_4 (dk_at dksX7_isCrown_0 15 rfl rfl)
theorem dX7_isCrown_16 : decode cX7_isCrown 16 = .ok (.if_icmp .ne 7, 3) := dk_160 0 7 (dk_at dksX7_isCrown_0 16 rfl rfl)
theorem dX7_isCrown_19 : decode cX7_isCrown 19 = .ok (.iconst 1, 1) := dk_4 (dk_at dksX7_isCrown_0 19 rfl rfl)
theorem dX7_isCrown_20 : decode cX7_isCrown 20 = .ok (.goto 4, 3) := dk_167 0 4 (dk_at dksX7_isCrown_0 20 rfl rfl)
theorem dX7_isCrown_23 : decode cX7_isCrown 23 = .ok (.iconst 0, 1) := dk_3 (dk_at dksX7_isCrown_0 23 rfl rfl)
theorem dX7_isCrown_24 : decode cX7_isCrown 24 = .ok (.ireturn, 1) := dk_172 (dk_at dksX7_isCrown_1 0 rfl rfl)
abbrev cX7_kindOf : ByteArray := prog_25_method_39_code
def yX7_kindOf : MethodName := ⟨RX7, "kindOf", "(I)I"⟩
def dkwX7_kindOf_0 : List UInt8 := [42, 180, 0, 133, 16, 16, 5, 27, 104, 96, 46, 172]
abbrev dktX7_kindOf_0 : List UInt8 := dkwX7_kindOf_0 ++ []
theorem dksX7_kindOf_0 : cX7_kindOf.data.toList.drop 0 = dktX7_kindOf_0 := by decide +kernel
theorem dX7_kindOf_0 : decode cX7_kindOf 0 = .ok (.aload_n 0, 1) := dk_42 (dk_at dksX7_kindOf_0 0 rfl rfl)
theorem dX7_kindOf_1 : decode cX7_kindOf 1 = .ok (.getfield 133, 3) := dk_180 0 133 (dk_at dksX7_kindOf_0 1 rfl rfl)
theorem dX7_kindOf_4 : decode cX7_kindOf 4 = .ok (.bipush 16, 2) := dk_16 16 (dk_at dksX7_kindOf_0 4 rfl rfl)
theorem dX7_kindOf_6 : decode cX7_kindOf 6 = .ok (.iconst 2, 1) := dk_5 (dk_at dksX7_kindOf_0 6 rfl rfl)
theorem dX7_kindOf_7 : decode cX7_kindOf 7 = .ok (.iload_n 1, 1) := dk_27 (dk_at dksX7_kindOf_0 7 rfl rfl)
theorem dX7_kindOf_8 : decode cX7_kindOf 8 = .ok (.imul, 1) := dk_104 (dk_at dksX7_kindOf_0 8 rfl rfl)
theorem dX7_kindOf_9 : decode cX7_kindOf 9 = .ok (.iadd, 1) := dk_96 (dk_at dksX7_kindOf_0 9 rfl rfl)
theorem dX7_kindOf_10 : decode cX7_kindOf 10 = .ok (.iaload, 1) := dk_46 (dk_at dksX7_kindOf_0 10 rfl rfl)
theorem dX7_kindOf_11 : decode cX7_kindOf 11 = .ok (.ireturn, 1) := dk_172 (dk_at dksX7_kindOf_0 11 rfl rfl)
abbrev cX7_isTaken : ByteArray := prog_25_method_38_code
def yX7_isTaken : MethodName := ⟨RX7, "isTaken", "(I)Z"⟩
def dkwX7_isTaken_0 : List UInt8 := [42, 27, 182, 1, 183, 2, 160, 0, 7, 4, 167, 0, 4, 3, 172]
abbrev dktX7_isTaken_0 : List UInt8 := dkwX7_isTaken_0 ++ []
theorem dksX7_isTaken_0 : cX7_isTaken.data.toList.drop 0 = dktX7_isTaken_0 := by decide +kernel
theorem dX7_isTaken_0 : decode cX7_isTaken 0 = .ok (.aload_n 0, 1) := dk_42 (dk_at dksX7_isTaken_0 0 rfl rfl)
theorem dX7_isTaken_1 : decode cX7_isTaken 1 = .ok (.iload_n 1, 1) := dk_27 (dk_at dksX7_isTaken_0 1 rfl rfl)
theorem dX7_isTaken_2 : decode cX7_isTaken 2 = .ok (.invokevirtual 439, 3) := dk_182 1 183 (dk_at dksX7_isTaken_0 2 rfl rfl)
theorem dX7_isTaken_5 : decode cX7_isTaken 5 = .ok (.iconst (-1), 1) := dk_2 (dk_at dksX7_isTaken_0 5 rfl rfl)
theorem dX7_isTaken_6 : decode cX7_isTaken 6 = .ok (.if_icmp .ne 7, 3) := dk_160 0 7 (dk_at dksX7_isTaken_0 6 rfl rfl)
theorem dX7_isTaken_9 : decode cX7_isTaken 9 = .ok (.iconst 1, 1) := dk_4 (dk_at dksX7_isTaken_0 9 rfl rfl)
theorem dX7_isTaken_10 : decode cX7_isTaken 10 = .ok (.goto 4, 3) := dk_167 0 4 (dk_at dksX7_isTaken_0 10 rfl rfl)
theorem dX7_isTaken_13 : decode cX7_isTaken 13 = .ok (.iconst 0, 1) := dk_3 (dk_at dksX7_isTaken_0 13 rfl rfl)
theorem dX7_isTaken_14 : decode cX7_isTaken 14 = .ok (.ireturn, 1) := dk_172 (dk_at dksX7_isTaken_0 14 rfl rfl)
abbrev cX7_columnOf : ByteArray := prog_25_method_36_code
def yX7_columnOf : MethodName := ⟨RX7, "columnOf", "(I)I"⟩
def dkwX7_columnOf_0 : List UInt8 := [42, 180, 0, 154, 5, 5, 27, 104, 96, 46, 172]
abbrev dktX7_columnOf_0 : List UInt8 := dkwX7_columnOf_0 ++ []
theorem dksX7_columnOf_0 : cX7_columnOf.data.toList.drop 0 = dktX7_columnOf_0 := by decide +kernel
theorem dX7_columnOf_0 : decode cX7_columnOf 0 = .ok (.aload_n 0, 1) := dk_42 (dk_at dksX7_columnOf_0 0 rfl rfl)
theorem dX7_columnOf_1 : decode cX7_columnOf 1 = .ok (.getfield 154, 3) := dk_180 0 154 (dk_at dksX7_columnOf_0 1 rfl rfl)
theorem dX7_columnOf_4 : decode cX7_columnOf 4 = .ok (.iconst 2, 1) := dk_5 (dk_at dksX7_columnOf_0 4 rfl rfl)
theorem dX7_columnOf_5 : decode cX7_columnOf 5 = .ok (.iconst 2, 1) := dk_5 (dk_at dksX7_columnOf_0 5 rfl rfl)
theorem dX7_columnOf_6 : decode cX7_columnOf 6 = .ok (.iload_n 1, 1) := dk_27 (dk_at dksX7_columnOf_0 6 rfl rfl)
theorem dX7_columnOf_7 : decode cX7_columnOf 7 = .ok (.imul, 1) := dk_104 (dk_at dksX7_columnOf_0 7 rfl rfl)
theorem dX7_columnOf_8 : decode cX7_columnOf 8 = .ok (.iadd, 1) := dk_96 (dk_at dksX7_columnOf_0 8 rfl rfl)
theorem dX7_columnOf_9 : decode cX7_columnOf 9 = .ok (.iaload, 1) := dk_46 (dk_at dksX7_columnOf_0 9 rfl rfl)
theorem dX7_columnOf_10 : decode cX7_columnOf 10 = .ok (.ireturn, 1) := dk_172 (dk_at dksX7_columnOf_0 10 rfl rfl)
abbrev cX7_hasMove : ByteArray := prog_25_method_51_code
def yX7_hasMove : MethodName := ⟨RX7, "hasMove", "()Z"⟩
def dkwX7_hasMove_1 : List UInt8 := [42, 27, 182, 1, 222, 158, 0, 5, 4, 172, 132, 1, 1, 167, 255, 221, 3, 172]
abbrev dktX7_hasMove_1 : List UInt8 := dkwX7_hasMove_1 ++ []
def dkwX7_hasMove_0 : List UInt8 := [3, 60, 27, 42, 182, 1, 177, 162, 0, 33, 42, 27, 182, 1, 212, 42, 180, 0, 154, 4, 46, 160, 0, 13]
abbrev dktX7_hasMove_0 : List UInt8 := dkwX7_hasMove_0 ++ dktX7_hasMove_1
theorem dksX7_hasMove_0 : cX7_hasMove.data.toList.drop 0 = dktX7_hasMove_0 := by decide +kernel
theorem dksX7_hasMove_1 : cX7_hasMove.data.toList.drop 24 = dktX7_hasMove_1 := dk_seg dksX7_hasMove_0 24 rfl rfl
theorem dX7_hasMove_0 : decode cX7_hasMove 0 = .ok (.iconst 0, 1) := dk_3 (dk_at dksX7_hasMove_0 0 rfl rfl)
theorem dX7_hasMove_1 : decode cX7_hasMove 1 = .ok (.istore_n 1, 1) := dk_60 (dk_at dksX7_hasMove_0 1 rfl rfl)
theorem dX7_hasMove_2 : decode cX7_hasMove 2 = .ok (.iload_n 1, 1) := dk_27 (dk_at dksX7_hasMove_0 2 rfl rfl)
theorem dX7_hasMove_3 : decode cX7_hasMove 3 = .ok (.aload_n 0, 1) := dk_42 (dk_at dksX7_hasMove_0 3 rfl rfl)
theorem dX7_hasMove_4 : decode cX7_hasMove 4 = .ok (.invokevirtual 433, 3) := dk_182 1 177 (dk_at dksX7_hasMove_0 4 rfl rfl)
theorem dX7_hasMove_7 : decode cX7_hasMove 7 = .ok (.if_icmp .ge 33, 3) := dk_162 0 33 (dk_at dksX7_hasMove_0 7 rfl rfl)
theorem dX7_hasMove_10 : decode cX7_hasMove 10 = .ok (.aload_n 0, 1) := dk_42 (dk_at dksX7_hasMove_0 10 rfl rfl)
theorem dX7_hasMove_11 : decode cX7_hasMove 11 = .ok (.iload_n 1, 1) := dk_27 (dk_at dksX7_hasMove_0 11 rfl rfl)
theorem dX7_hasMove_12 : decode cX7_hasMove 12 = .ok (.invokevirtual 468, 3) := dk_182 1 212 (dk_at dksX7_hasMove_0 12 rfl rfl)
theorem dX7_hasMove_15 : decode cX7_hasMove 15 = .ok (.aload_n 0, 1) := dk_42 (dk_at dksX7_hasMove_0 15 rfl rfl)
theorem dX7_hasMove_16 : decode cX7_hasMove 16 = .ok (.getfield 154, 3) := dk_180 0 154 (dk_at dksX7_hasMove_0 16 rfl rfl)
theorem dX7_hasMove_19 : decode cX7_hasMove 19 = .ok (.iconst 1, 1) := dk_4 (dk_at dksX7_hasMove_0 19 rfl rfl)
theorem dX7_hasMove_20 : decode cX7_hasMove 20 = .ok (.iaload, 1) := dk_46 (dk_at dksX7_hasMove_0 20 rfl rfl)
theorem dX7_hasMove_21 : decode cX7_hasMove 21 = .ok (.if_icmp .ne 13, 3) := dk_160 0 13 (dk_at dksX7_hasMove_0 21 rfl rfl)
theorem dX7_hasMove_24 : decode cX7_hasMove 24 = .ok (.aload_n 0, 1) := dk_42 (dk_at dksX7_hasMove_1 0 rfl rfl)
theorem dX7_hasMove_25 : decode cX7_hasMove 25 = .ok (.iload_n 1, 1) := dk_27 (dk_at dksX7_hasMove_1 1 rfl rfl)
theorem dX7_hasMove_26 : decode cX7_hasMove 26 = .ok (.invokevirtual 478, 3) := dk_182 1 222 (dk_at dksX7_hasMove_1 2 rfl rfl)
theorem dX7_hasMove_29 : decode cX7_hasMove 29 = .ok (.ifCond .le 5, 3) := dk_158 0 5 (dk_at dksX7_hasMove_1 5 rfl rfl)
theorem dX7_hasMove_32 : decode cX7_hasMove 32 = .ok (.iconst 1, 1) := dk_4 (dk_at dksX7_hasMove_1 8 rfl rfl)
theorem dX7_hasMove_33 : decode cX7_hasMove 33 = .ok (.ireturn, 1) := dk_172 (dk_at dksX7_hasMove_1 9 rfl rfl)
theorem dX7_hasMove_34 : decode cX7_hasMove 34 = .ok (.iinc 1 1, 3) := dk_132 1 1 (dk_at dksX7_hasMove_1 10 rfl rfl)
theorem dX7_hasMove_37 : decode cX7_hasMove 37 = .ok (.goto (-35), 3) := dk_167 255 221 (dk_at dksX7_hasMove_1 13 rfl rfl)
theorem dX7_hasMove_40 : decode cX7_hasMove 40 = .ok (.iconst 0, 1) := dk_3 (dk_at dksX7_hasMove_1 16 rfl rfl)
theorem dX7_hasMove_41 : decode cX7_hasMove 41 = .ok (.ireturn, 1) := dk_172 (dk_at dksX7_hasMove_1 17 rfl rfl)
abbrev cX7_sideOf : ByteArray := prog_25_method_40_code
def yX7_sideOf : MethodName := ⟨RX7, "sideOf", "(I)I"⟩
def dkwX7_sideOf_0 : List UInt8 := [42, 180, 0, 133, 16, 17, 5, 27, 104, 96, 46, 172]
abbrev dktX7_sideOf_0 : List UInt8 := dkwX7_sideOf_0 ++ []
theorem dksX7_sideOf_0 : cX7_sideOf.data.toList.drop 0 = dktX7_sideOf_0 := by decide +kernel
theorem dX7_sideOf_0 : decode cX7_sideOf 0 = .ok (.aload_n 0, 1) := dk_42 (dk_at dksX7_sideOf_0 0 rfl rfl)
theorem dX7_sideOf_1 : decode cX7_sideOf 1 = .ok (.getfield 133, 3) := dk_180 0 133 (dk_at dksX7_sideOf_0 1 rfl rfl)
theorem dX7_sideOf_4 : decode cX7_sideOf 4 = .ok (.bipush 17, 2) := dk_16 17 (dk_at dksX7_sideOf_0 4 rfl rfl)
theorem dX7_sideOf_6 : decode cX7_sideOf 6 = .ok (.iconst 2, 1) := dk_5 (dk_at dksX7_sideOf_0 6 rfl rfl)
theorem dX7_sideOf_7 : decode cX7_sideOf 7 = .ok (.iload_n 1, 1) := dk_27 (dk_at dksX7_sideOf_0 7 rfl rfl)
theorem dX7_sideOf_8 : decode cX7_sideOf 8 = .ok (.imul, 1) := dk_104 (dk_at dksX7_sideOf_0 8 rfl rfl)
theorem dX7_sideOf_9 : decode cX7_sideOf 9 = .ok (.iadd, 1) := dk_96 (dk_at dksX7_sideOf_0 9 rfl rfl)
theorem dX7_sideOf_10 : decode cX7_sideOf 10 = .ok (.iaload, 1) := dk_46 (dk_at dksX7_sideOf_0 10 rfl rfl)
theorem dX7_sideOf_11 : decode cX7_sideOf 11 = .ok (.ireturn, 1) := dk_172 (dk_at dksX7_sideOf_0 11 rfl rfl)
abbrev cX7_movesOf : ByteArray := prog_25_method_50_code
def yX7_movesOf : MethodName := ⟨RX7, "movesOf", "(I)I"⟩
def dkwX7_movesOf_1 : List UInt8 := [132, 3, 1, 167, 255, 233, 28, 172]
abbrev dktX7_movesOf_1 : List UInt8 := dkwX7_movesOf_1 ++ []
def dkwX7_movesOf_0 : List UInt8 := [3, 61, 3, 62, 29, 42, 182, 1, 215, 162, 0, 21, 42, 27, 29, 182, 1, 218, 153, 0, 6, 132, 2, 1]
abbrev dktX7_movesOf_0 : List UInt8 := dkwX7_movesOf_0 ++ dktX7_movesOf_1
theorem dksX7_movesOf_0 : cX7_movesOf.data.toList.drop 0 = dktX7_movesOf_0 := by decide +kernel
theorem dksX7_movesOf_1 : cX7_movesOf.data.toList.drop 24 = dktX7_movesOf_1 := dk_seg dksX7_movesOf_0 24 rfl rfl
theorem dX7_movesOf_0 : decode cX7_movesOf 0 = .ok (.iconst 0, 1) := dk_3 (dk_at dksX7_movesOf_0 0 rfl rfl)
theorem dX7_movesOf_1 : decode cX7_movesOf 1 = .ok (.istore_n 2, 1) := dk_61 (dk_at dksX7_movesOf_0 1 rfl rfl)
theorem dX7_movesOf_2 : decode cX7_movesOf 2 = .ok (.iconst 0, 1) := dk_3 (dk_at dksX7_movesOf_0 2 rfl rfl)
theorem dX7_movesOf_3 : decode cX7_movesOf 3 = .ok (.istore_n 3, 1) := dk_62 (dk_at dksX7_movesOf_0 3 rfl rfl)
theorem dX7_movesOf_4 : decode cX7_movesOf 4 = .ok (.iload_n 3, 1) := dk_29 (dk_at dksX7_movesOf_0 4 rfl rfl)
theorem dX7_movesOf_5 : decode cX7_movesOf 5 = .ok (.aload_n 0, 1) := dk_42 (dk_at dksX7_movesOf_0 5 rfl rfl)
theorem dX7_movesOf_6 : decode cX7_movesOf 6 = .ok (.invokevirtual 471, 3) := dk_182 1 215 (dk_at dksX7_movesOf_0 6 rfl rfl)
theorem dX7_movesOf_9 : decode cX7_movesOf 9 = .ok (.if_icmp .ge 21, 3) := dk_162 0 21 (dk_at dksX7_movesOf_0 9 rfl rfl)
theorem dX7_movesOf_12 : decode cX7_movesOf 12 = .ok (.aload_n 0, 1) := dk_42 (dk_at dksX7_movesOf_0 12 rfl rfl)
theorem dX7_movesOf_13 : decode cX7_movesOf 13 = .ok (.iload_n 1, 1) := dk_27 (dk_at dksX7_movesOf_0 13 rfl rfl)
theorem dX7_movesOf_14 : decode cX7_movesOf 14 = .ok (.iload_n 3, 1) := dk_29 (dk_at dksX7_movesOf_0 14 rfl rfl)
theorem dX7_movesOf_15 : decode cX7_movesOf 15 = .ok (.invokevirtual 474, 3) := dk_182 1 218 (dk_at dksX7_movesOf_0 15 rfl rfl)
theorem dX7_movesOf_18 : decode cX7_movesOf 18 = .ok (.ifCond .eq 6, 3) := dk_153 0 6 (dk_at dksX7_movesOf_0 18 rfl rfl)
theorem dX7_movesOf_21 : decode cX7_movesOf 21 = .ok (.iinc 2 1, 3) := dk_132 2 1 (dk_at dksX7_movesOf_0 21 rfl rfl)
theorem dX7_movesOf_24 : decode cX7_movesOf 24 = .ok (.iinc 3 1, 3) := dk_132 3 1 (dk_at dksX7_movesOf_1 0 rfl rfl)
theorem dX7_movesOf_27 : decode cX7_movesOf 27 = .ok (.goto (-23), 3) := dk_167 255 233 (dk_at dksX7_movesOf_1 3 rfl rfl)
theorem dX7_movesOf_30 : decode cX7_movesOf 30 = .ok (.iload_n 2, 1) := dk_28 (dk_at dksX7_movesOf_1 6 rfl rfl)
theorem dX7_movesOf_31 : decode cX7_movesOf 31 = .ok (.ireturn, 1) := dk_172 (dk_at dksX7_movesOf_1 7 rfl rfl)
abbrev cX7_places : ByteArray := prog_25_method_43_code
def yX7_places : MethodName := ⟨RX7, "places", "()I"⟩
def dkwX7_places_0 : List UInt8 := [42, 180, 0, 127, 7, 46, 42, 180, 0, 127, 8, 46, 104, 172]
abbrev dktX7_places_0 : List UInt8 := dkwX7_places_0 ++ []
theorem dksX7_places_0 : cX7_places.data.toList.drop 0 = dktX7_places_0 := by decide +kernel
theorem dX7_places_0 : decode cX7_places 0 = .ok (.aload_n 0, 1) := dk_42 (dk_at dksX7_places_0 0 rfl rfl)
theorem dX7_places_1 : decode cX7_places 1 = .ok (.getfield 127, 3) := dk_180 0 127 (dk_at dksX7_places_0 1 rfl rfl)
theorem dX7_places_4 : decode cX7_places 4 = .ok (.iconst 4, 1) := dk_7 (dk_at dksX7_places_0 4 rfl rfl)
theorem dX7_places_5 : decode cX7_places 5 = .ok (.iaload, 1) := dk_46 (dk_at dksX7_places_0 5 rfl rfl)
theorem dX7_places_6 : decode cX7_places 6 = .ok (.aload_n 0, 1) := dk_42 (dk_at dksX7_places_0 6 rfl rfl)
theorem dX7_places_7 : decode cX7_places 7 = .ok (.getfield 127, 3) := dk_180 0 127 (dk_at dksX7_places_0 7 rfl rfl)
theorem dX7_places_10 : decode cX7_places 10 = .ok (.iconst 5, 1) := dk_8 (dk_at dksX7_places_0 10 rfl rfl)
theorem dX7_places_11 : decode cX7_places 11 = .ok (.iaload, 1) := dk_46 (dk_at dksX7_places_0 11 rfl rfl)
theorem dX7_places_12 : decode cX7_places 12 = .ok (.imul, 1) := dk_104 (dk_at dksX7_places_0 12 rfl rfl)
theorem dX7_places_13 : decode cX7_places 13 = .ok (.ireturn, 1) := dk_172 (dk_at dksX7_places_0 13 rfl rfl)
abbrev cX7_canGo : ByteArray := prog_25_method_49_code
def yX7_canGo : MethodName := ⟨RX7, "canGo", "(II)Z"⟩
def dkwX7_canGo_9 : List UInt8 := [182, 1, 212, 159, 0, 7, 4, 167, 0, 4, 3, 172]
abbrev dktX7_canGo_9 : List UInt8 := dkwX7_canGo_9 ++ []
def dkwX7_canGo_8 : List UInt8 := [42, 29, 21, 4, 182, 1, 199, 54, 8, 21, 8, 2, 159, 0, 17, 42, 21, 8, 182, 1, 212, 42, 27]
abbrev dktX7_canGo_8 : List UInt8 := dkwX7_canGo_8 ++ dktX7_canGo_9
def dkwX7_canGo_7 : List UInt8 := [21, 6, 160, 0, 20, 21, 7, 4, 159, 0, 14, 42, 27, 29, 21, 4, 182, 1, 209, 154, 0, 5, 3, 172]
abbrev dktX7_canGo_7 : List UInt8 := dkwX7_canGo_7 ++ dktX7_canGo_8
def dkwX7_canGo_6 : List UInt8 := [182, 1, 187, 104, 96, 46, 164, 0, 5, 3, 172, 21, 8, 153, 0, 9, 21, 7, 5, 160, 0, 16, 21, 5]
abbrev dktX7_canGo_6 : List UInt8 := dkwX7_canGo_6 ++ dktX7_canGo_7
def dkwX7_canGo_5 : List UInt8 := [21, 4, 42, 27, 182, 1, 183, 42, 27, 182, 1, 190, 184, 1, 205, 42, 180, 0, 130, 16, 21, 7, 42, 27]
abbrev dktX7_canGo_5 : List UInt8 := dkwX7_canGo_5 ++ dktX7_canGo_6
def dkwX7_canGo_4 : List UInt8 := [159, 0, 95, 3, 172, 21, 5, 153, 0, 8, 21, 6, 154, 0, 7, 4, 167, 0, 4, 3, 54, 8, 29]
abbrev dktX7_canGo_4 : List UInt8 := dkwX7_canGo_4 ++ dktX7_canGo_5
def dkwX7_canGo_3 : List UInt8 := [7, 42, 27, 182, 1, 187, 104, 96, 46, 54, 7, 21, 7, 7, 160, 0, 14, 21, 5, 21, 6, 104, 5]
abbrev dktX7_canGo_3 : List UInt8 := dkwX7_canGo_3 ++ dktX7_canGo_4
def dkwX7_canGo_2 : List UInt8 := [100, 184, 1, 193, 54, 6, 21, 5, 154, 0, 10, 21, 6, 154, 0, 5, 3, 172, 42, 180, 0, 130, 16, 20]
abbrev dktX7_canGo_2 : List UInt8 := dkwX7_canGo_2 ++ dktX7_canGo_3
def dkwX7_canGo_1 : List UInt8 := [7, 46, 108, 54, 4, 29, 42, 27, 182, 1, 183, 100, 184, 1, 193, 54, 5, 21, 4, 42, 27, 182, 1, 190]
abbrev dktX7_canGo_1 : List UInt8 := dkwX7_canGo_1 ++ dktX7_canGo_2
def dkwX7_canGo_0 : List UInt8 := [42, 27, 182, 1, 202, 153, 0, 5, 3, 172, 28, 42, 180, 0, 127, 7, 46, 112, 62, 28, 42, 180, 0, 127]
abbrev dktX7_canGo_0 : List UInt8 := dkwX7_canGo_0 ++ dktX7_canGo_1
theorem dksX7_canGo_0 : cX7_canGo.data.toList.drop 0 = dktX7_canGo_0 := by decide +kernel
theorem dksX7_canGo_1 : cX7_canGo.data.toList.drop 24 = dktX7_canGo_1 := dk_seg dksX7_canGo_0 24 rfl rfl
theorem dksX7_canGo_2 : cX7_canGo.data.toList.drop 48 = dktX7_canGo_2 := dk_seg dksX7_canGo_1 24 rfl rfl
theorem dksX7_canGo_3 : cX7_canGo.data.toList.drop 72 = dktX7_canGo_3 := dk_seg dksX7_canGo_2 24 rfl rfl
theorem dksX7_canGo_4 : cX7_canGo.data.toList.drop 95 = dktX7_canGo_4 := dk_seg dksX7_canGo_3 23 rfl rfl
theorem dksX7_canGo_5 : cX7_canGo.data.toList.drop 118 = dktX7_canGo_5 := dk_seg dksX7_canGo_4 23 rfl rfl
theorem dksX7_canGo_6 : cX7_canGo.data.toList.drop 142 = dktX7_canGo_6 := dk_seg dksX7_canGo_5 24 rfl rfl
theorem dksX7_canGo_7 : cX7_canGo.data.toList.drop 166 = dktX7_canGo_7 := dk_seg dksX7_canGo_6 24 rfl rfl
theorem dksX7_canGo_8 : cX7_canGo.data.toList.drop 190 = dktX7_canGo_8 := dk_seg dksX7_canGo_7 24 rfl rfl
theorem dksX7_canGo_9 : cX7_canGo.data.toList.drop 213 = dktX7_canGo_9 := dk_seg dksX7_canGo_8 23 rfl rfl
theorem dX7_canGo_0 : decode cX7_canGo 0 = .ok (.aload_n 0, 1) := dk_42 (dk_at dksX7_canGo_0 0 rfl rfl)
theorem dX7_canGo_1 : decode cX7_canGo 1 = .ok (.iload_n 1, 1) := dk_27 (dk_at dksX7_canGo_0 1 rfl rfl)
theorem dX7_canGo_2 : decode cX7_canGo 2 = .ok (.invokevirtual 458, 3) := dk_182 1 202 (dk_at dksX7_canGo_0 2 rfl rfl)
theorem dX7_canGo_5 : decode cX7_canGo 5 = .ok (.ifCond .eq 5, 3) := dk_153 0 5 (dk_at dksX7_canGo_0 5 rfl rfl)
theorem dX7_canGo_8 : decode cX7_canGo 8 = .ok (.iconst 0, 1) := dk_3 (dk_at dksX7_canGo_0 8 rfl rfl)
theorem dX7_canGo_9 : decode cX7_canGo 9 = .ok (.ireturn, 1) := dk_172 (dk_at dksX7_canGo_0 9 rfl rfl)
theorem dX7_canGo_10 : decode cX7_canGo 10 = .ok (.iload_n 2, 1) := dk_28 (dk_at dksX7_canGo_0 10 rfl rfl)
theorem dX7_canGo_11 : decode cX7_canGo 11 = .ok (.aload_n 0, 1) := dk_42 (dk_at dksX7_canGo_0 11 rfl rfl)
theorem dX7_canGo_12 : decode cX7_canGo 12 = .ok (.getfield 127, 3) := dk_180 0 127 (dk_at dksX7_canGo_0 12 rfl rfl)
theorem dX7_canGo_15 : decode cX7_canGo 15 = .ok (.iconst 4, 1) := dk_7 (dk_at dksX7_canGo_0 15 rfl rfl)
theorem dX7_canGo_16 : decode cX7_canGo 16 = .ok (.iaload, 1) := dk_46 (dk_at dksX7_canGo_0 16 rfl rfl)
theorem dX7_canGo_17 : decode cX7_canGo 17 = .ok (.irem, 1) := dk_112 (dk_at dksX7_canGo_0 17 rfl rfl)
theorem dX7_canGo_18 : decode cX7_canGo 18 = .ok (.istore_n 3, 1) := dk_62 (dk_at dksX7_canGo_0 18 rfl rfl)
theorem dX7_canGo_19 : decode cX7_canGo 19 = .ok (.iload_n 2, 1) := dk_28 (dk_at dksX7_canGo_0 19 rfl rfl)
theorem dX7_canGo_20 : decode cX7_canGo 20 = .ok (.aload_n 0, 1) := dk_42 (dk_at dksX7_canGo_0 20 rfl rfl)
theorem dX7_canGo_21 : decode cX7_canGo 21 = .ok (.getfield 127, 3) := dk_180 0 127 (dk_at dksX7_canGo_0 21 rfl rfl)
theorem dX7_canGo_24 : decode cX7_canGo 24 = .ok (.iconst 4, 1) := dk_7 (dk_at dksX7_canGo_1 0 rfl rfl)
theorem dX7_canGo_25 : decode cX7_canGo 25 = .ok (.iaload, 1) := dk_46 (dk_at dksX7_canGo_1 1 rfl rfl)
theorem dX7_canGo_26 : decode cX7_canGo 26 = .ok (.idiv, 1) := dk_108 (dk_at dksX7_canGo_1 2 rfl rfl)
theorem dX7_canGo_27 : decode cX7_canGo 27 = .ok (.istore 4, 2) := dk_54 4 (dk_at dksX7_canGo_1 3 rfl rfl)
theorem dX7_canGo_29 : decode cX7_canGo 29 = .ok (.iload_n 3, 1) := dk_29 (dk_at dksX7_canGo_1 5 rfl rfl)
theorem dX7_canGo_30 : decode cX7_canGo 30 = .ok (.aload_n 0, 1) := dk_42 (dk_at dksX7_canGo_1 6 rfl rfl)
theorem dX7_canGo_31 : decode cX7_canGo 31 = .ok (.iload_n 1, 1) := dk_27 (dk_at dksX7_canGo_1 7 rfl rfl)
theorem dX7_canGo_32 : decode cX7_canGo 32 = .ok (.invokevirtual 439, 3) := dk_182 1 183 (dk_at dksX7_canGo_1 8 rfl rfl)
theorem dX7_canGo_35 : decode cX7_canGo 35 = .ok (.isub, 1) := dk_100 (dk_at dksX7_canGo_1 11 rfl rfl)
theorem dX7_canGo_36 : decode cX7_canGo 36 = .ok (.invokestatic 449, 3) := dk_184 1 193 (dk_at dksX7_canGo_1 12 rfl rfl)
theorem dX7_canGo_39 : decode cX7_canGo 39 = .ok (.istore 5, 2) := dk_54 5 (dk_at dksX7_canGo_1 15 rfl rfl)
theorem dX7_canGo_41 : decode cX7_canGo 41 = .ok (.iload 4, 2) := dk_21 4 (dk_at dksX7_canGo_1 17 rfl rfl)
theorem dX7_canGo_43 : decode cX7_canGo 43 = .ok (.aload_n 0, 1) := dk_42 (dk_at dksX7_canGo_1 19 rfl rfl)
theorem dX7_canGo_44 : decode cX7_canGo 44 = .ok (.iload_n 1, 1) := dk_27 (dk_at dksX7_canGo_1 20 rfl rfl)
theorem dX7_canGo_45 : decode cX7_canGo 45 = .ok (.invokevirtual 446, 3) := dk_182 1 190 (dk_at dksX7_canGo_1 21 rfl rfl)
theorem dX7_canGo_48 : decode cX7_canGo 48 = .ok (.isub, 1) := dk_100 (dk_at dksX7_canGo_2 0 rfl rfl)
theorem dX7_canGo_49 : decode cX7_canGo 49 = .ok (.invokestatic 449, 3) := dk_184 1 193 (dk_at dksX7_canGo_2 1 rfl rfl)
theorem dX7_canGo_52 : decode cX7_canGo 52 = .ok (.istore 6, 2) := dk_54 6 (dk_at dksX7_canGo_2 4 rfl rfl)
theorem dX7_canGo_54 : decode cX7_canGo 54 = .ok (.iload 5, 2) := dk_21 5 (dk_at dksX7_canGo_2 6 rfl rfl)
theorem dX7_canGo_56 : decode cX7_canGo 56 = .ok (.ifCond .ne 10, 3) := dk_154 0 10 (dk_at dksX7_canGo_2 8 rfl rfl)
theorem dX7_canGo_59 : decode cX7_canGo 59 = .ok (.iload 6, 2) := dk_21 6 (dk_at dksX7_canGo_2 11 rfl rfl)
theorem dX7_canGo_61 : decode cX7_canGo 61 = .ok (.ifCond .ne 5, 3) := dk_154 0 5 (dk_at dksX7_canGo_2 13 rfl rfl)
theorem dX7_canGo_64 : decode cX7_canGo 64 = .ok (.iconst 0, 1) := dk_3 (dk_at dksX7_canGo_2 16 rfl rfl)
theorem dX7_canGo_65 : decode cX7_canGo 65 = .ok (.ireturn, 1) := dk_172 (dk_at dksX7_canGo_2 17 rfl rfl)
theorem dX7_canGo_66 : decode cX7_canGo 66 = .ok (.aload_n 0, 1) := dk_42 (dk_at dksX7_canGo_2 18 rfl rfl)
theorem dX7_canGo_67 : decode cX7_canGo 67 = .ok (.getfield 130, 3) := dk_180 0 130 (dk_at dksX7_canGo_2 19 rfl rfl)
theorem dX7_canGo_70 : decode cX7_canGo 70 = .ok (.bipush 20, 2) := dk_16 20 (dk_at dksX7_canGo_2 22 rfl rfl)
theorem dX7_canGo_72 : decode cX7_canGo 72 = .ok (.iconst 4, 1) := dk_7 (dk_at dksX7_canGo_3 0 rfl rfl)
theorem dX7_canGo_73 : decode cX7_canGo 73 = .ok (.aload_n 0, 1) := dk_42 (dk_at dksX7_canGo_3 1 rfl rfl)
theorem dX7_canGo_74 : decode cX7_canGo 74 = .ok (.iload_n 1, 1) := dk_27 (dk_at dksX7_canGo_3 2 rfl rfl)
theorem dX7_canGo_75 : decode cX7_canGo 75 = .ok (.invokevirtual 443, 3) := dk_182 1 187 (dk_at dksX7_canGo_3 3 rfl rfl)
theorem dX7_canGo_78 : decode cX7_canGo 78 = .ok (.imul, 1) := dk_104 (dk_at dksX7_canGo_3 6 rfl rfl)
theorem dX7_canGo_79 : decode cX7_canGo 79 = .ok (.iadd, 1) := dk_96 (dk_at dksX7_canGo_3 7 rfl rfl)
theorem dX7_canGo_80 : decode cX7_canGo 80 = .ok (.iaload, 1) := dk_46 (dk_at dksX7_canGo_3 8 rfl rfl)
theorem dX7_canGo_81 : decode cX7_canGo 81 = .ok (.istore 7, 2) := dk_54 7 (dk_at dksX7_canGo_3 9 rfl rfl)
theorem dX7_canGo_83 : decode cX7_canGo 83 = .ok (.iload 7, 2) := dk_21 7 (dk_at dksX7_canGo_3 11 rfl rfl)
theorem dX7_canGo_85 : decode cX7_canGo 85 = .ok (.iconst 4, 1) := dk_7 (dk_at dksX7_canGo_3 13 rfl rfl)
theorem dX7_canGo_86 : decode cX7_canGo 86 = .ok (.if_icmp .ne 14, 3) := dk_160 0 14 (dk_at dksX7_canGo_3 14 rfl rfl)
theorem dX7_canGo_89 : decode cX7_canGo 89 = .ok (.iload 5, 2) := dk_21 5 (dk_at dksX7_canGo_3 17 rfl rfl)
theorem dX7_canGo_91 : decode cX7_canGo 91 = .ok (.iload 6, 2) := dk_21 6 (dk_at dksX7_canGo_3 19 rfl rfl)
theorem dX7_canGo_93 : decode cX7_canGo 93 = .ok (.imul, 1) := dk_104 (dk_at dksX7_canGo_3 21 rfl rfl)
theorem dX7_canGo_94 : decode cX7_canGo 94 = .ok (.iconst 2, 1) := dk_5 (dk_at dksX7_canGo_3 22 rfl rfl)
theorem dX7_canGo_95 : decode cX7_canGo 95 = .ok (.if_icmp .eq 95, 3) := dk_159 0 95 (dk_at dksX7_canGo_4 0 rfl rfl)
theorem dX7_canGo_98 : decode cX7_canGo 98 = .ok (.iconst 0, 1) := dk_3 (dk_at dksX7_canGo_4 3 rfl rfl)
theorem dX7_canGo_99 : decode cX7_canGo 99 = .ok (.ireturn, 1) := dk_172 (dk_at dksX7_canGo_4 4 rfl rfl)
theorem dX7_canGo_100 : decode cX7_canGo 100 = .ok (.iload 5, 2) := dk_21 5 (dk_at dksX7_canGo_4 5 rfl rfl)
theorem dX7_canGo_102 : decode cX7_canGo 102 = .ok (.ifCond .eq 8, 3) := dk_153 0 8 (dk_at dksX7_canGo_4 7 rfl rfl)
theorem dX7_canGo_105 : decode cX7_canGo 105 = .ok (.iload 6, 2) := dk_21 6 (dk_at dksX7_canGo_4 10 rfl rfl)
theorem dX7_canGo_107 : decode cX7_canGo 107 = .ok (.ifCond .ne 7, 3) := dk_154 0 7 (dk_at dksX7_canGo_4 12 rfl rfl)
theorem dX7_canGo_110 : decode cX7_canGo 110 = .ok (.iconst 1, 1) := dk_4 (dk_at dksX7_canGo_4 15 rfl rfl)
theorem dX7_canGo_111 : decode cX7_canGo 111 = .ok (.goto 4, 3) := dk_167 0 4 (dk_at dksX7_canGo_4 16 rfl rfl)
theorem dX7_canGo_114 : decode cX7_canGo 114 = .ok (.iconst 0, 1) := dk_3 (dk_at dksX7_canGo_4 19 rfl rfl)
theorem dX7_canGo_115 : decode cX7_canGo 115 = .ok (.istore 8, 2) := dk_54 8 (dk_at dksX7_canGo_4 20 rfl rfl)
theorem dX7_canGo_117 : decode cX7_canGo 117 = .ok (.iload_n 3, 1) := dk_29 (dk_at dksX7_canGo_4 22 rfl rfl)
theorem dX7_canGo_118 : decode cX7_canGo 118 = .ok (.iload 4, 2) := dk_21 4 (dk_at dksX7_canGo_5 0 rfl rfl)
theorem dX7_canGo_120 : decode cX7_canGo 120 = .ok (.aload_n 0, 1) := dk_42 (dk_at dksX7_canGo_5 2 rfl rfl)
theorem dX7_canGo_121 : decode cX7_canGo 121 = .ok (.iload_n 1, 1) := dk_27 (dk_at dksX7_canGo_5 3 rfl rfl)
theorem dX7_canGo_122 : decode cX7_canGo 122 = .ok (.invokevirtual 439, 3) := dk_182 1 183 (dk_at dksX7_canGo_5 4 rfl rfl)
theorem dX7_canGo_125 : decode cX7_canGo 125 = .ok (.aload_n 0, 1) := dk_42 (dk_at dksX7_canGo_5 7 rfl rfl)
theorem dX7_canGo_126 : decode cX7_canGo 126 = .ok (.iload_n 1, 1) := dk_27 (dk_at dksX7_canGo_5 8 rfl rfl)
theorem dX7_canGo_127 : decode cX7_canGo 127 = .ok (.invokevirtual 446, 3) := dk_182 1 190 (dk_at dksX7_canGo_5 9 rfl rfl)
theorem dX7_canGo_130 : decode cX7_canGo 130 = .ok (.invokestatic 461, 3) := dk_184 1 205 (dk_at dksX7_canGo_5 12 rfl rfl)
theorem dX7_canGo_133 : decode cX7_canGo 133 = .ok (.aload_n 0, 1) := dk_42 (dk_at dksX7_canGo_5 15 rfl rfl)
theorem dX7_canGo_134 : decode cX7_canGo 134 = .ok (.getfield 130, 3) := dk_180 0 130 (dk_at dksX7_canGo_5 16 rfl rfl)
theorem dX7_canGo_137 : decode cX7_canGo 137 = .ok (.bipush 21, 2) := dk_16 21 (dk_at dksX7_canGo_5 19 rfl rfl)
theorem dX7_canGo_139 : decode cX7_canGo 139 = .ok (.iconst 4, 1) := dk_7 (dk_at dksX7_canGo_5 21 rfl rfl)
theorem dX7_canGo_140 : decode cX7_canGo 140 = .ok (.aload_n 0, 1) := dk_42 (dk_at dksX7_canGo_5 22 rfl rfl)
theorem dX7_canGo_141 : decode cX7_canGo 141 = .ok (.iload_n 1, 1) := dk_27 (dk_at dksX7_canGo_5 23 rfl rfl)
theorem dX7_canGo_142 : decode cX7_canGo 142 = .ok (.invokevirtual 443, 3) := dk_182 1 187 (dk_at dksX7_canGo_6 0 rfl rfl)
theorem dX7_canGo_145 : decode cX7_canGo 145 = .ok (.imul, 1) := dk_104 (dk_at dksX7_canGo_6 3 rfl rfl)
theorem dX7_canGo_146 : decode cX7_canGo 146 = .ok (.iadd, 1) := dk_96 (dk_at dksX7_canGo_6 4 rfl rfl)
theorem dX7_canGo_147 : decode cX7_canGo 147 = .ok (.iaload, 1) := dk_46 (dk_at dksX7_canGo_6 5 rfl rfl)
theorem dX7_canGo_148 : decode cX7_canGo 148 = .ok (.if_icmp .le 5, 3) := dk_164 0 5 (dk_at dksX7_canGo_6 6 rfl rfl)
theorem dX7_canGo_151 : decode cX7_canGo 151 = .ok (.iconst 0, 1) := dk_3 (dk_at dksX7_canGo_6 9 rfl rfl)
theorem dX7_canGo_152 : decode cX7_canGo 152 = .ok (.ireturn, 1) := dk_172 (dk_at dksX7_canGo_6 10 rfl rfl)
theorem dX7_canGo_153 : decode cX7_canGo 153 = .ok (.iload 8, 2) := dk_21 8 (dk_at dksX7_canGo_6 11 rfl rfl)
theorem dX7_canGo_155 : decode cX7_canGo 155 = .ok (.ifCond .eq 9, 3) := dk_153 0 9 (dk_at dksX7_canGo_6 13 rfl rfl)
theorem dX7_canGo_158 : decode cX7_canGo 158 = .ok (.iload 7, 2) := dk_21 7 (dk_at dksX7_canGo_6 16 rfl rfl)
theorem dX7_canGo_160 : decode cX7_canGo 160 = .ok (.iconst 2, 1) := dk_5 (dk_at dksX7_canGo_6 18 rfl rfl)
theorem dX7_canGo_161 : decode cX7_canGo 161 = .ok (.if_icmp .ne 16, 3) := dk_160 0 16 (dk_at dksX7_canGo_6 19 rfl rfl)
theorem dX7_canGo_164 : decode cX7_canGo 164 = .ok (.iload 5, 2) := dk_21 5 (dk_at dksX7_canGo_6 22 rfl rfl)
theorem dX7_canGo_166 : decode cX7_canGo 166 = .ok (.iload 6, 2) := dk_21 6 (dk_at dksX7_canGo_7 0 rfl rfl)
theorem dX7_canGo_168 : decode cX7_canGo 168 = .ok (.if_icmp .ne 20, 3) := dk_160 0 20 (dk_at dksX7_canGo_7 2 rfl rfl)
theorem dX7_canGo_171 : decode cX7_canGo 171 = .ok (.iload 7, 2) := dk_21 7 (dk_at dksX7_canGo_7 5 rfl rfl)
theorem dX7_canGo_173 : decode cX7_canGo 173 = .ok (.iconst 1, 1) := dk_4 (dk_at dksX7_canGo_7 7 rfl rfl)
theorem dX7_canGo_174 : decode cX7_canGo 174 = .ok (.if_icmp .eq 14, 3) := dk_159 0 14 (dk_at dksX7_canGo_7 8 rfl rfl)
theorem dX7_canGo_177 : decode cX7_canGo 177 = .ok (.aload_n 0, 1) := dk_42 (dk_at dksX7_canGo_7 11 rfl rfl)
theorem dX7_canGo_178 : decode cX7_canGo 178 = .ok (.iload_n 1, 1) := dk_27 (dk_at dksX7_canGo_7 12 rfl rfl)
theorem dX7_canGo_179 : decode cX7_canGo 179 = .ok (.iload_n 3, 1) := dk_29 (dk_at dksX7_canGo_7 13 rfl rfl)
theorem dX7_canGo_180 : decode cX7_canGo 180 = .ok (.iload 4, 2) := dk_21 4 (dk_at dksX7_canGo_7 14 rfl rfl)
theorem dX7_canGo_182 : decode cX7_canGo 182 = .ok (.invokevirtual 465, 3) := dk_182 1 209 (dk_at dksX7_canGo_7 16 rfl rfl)
theorem dX7_canGo_185 : decode cX7_canGo 185 = .ok (.ifCond .ne 5, 3) := dk_154 0 5 (dk_at dksX7_canGo_7 19 rfl rfl)
theorem dX7_canGo_188 : decode cX7_canGo 188 = .ok (.iconst 0, 1) := dk_3 (dk_at dksX7_canGo_7 22 rfl rfl)
theorem dX7_canGo_189 : decode cX7_canGo 189 = .ok (.ireturn, 1) := dk_172 (dk_at dksX7_canGo_7 23 rfl rfl)
theorem dX7_canGo_190 : decode cX7_canGo 190 = .ok (.aload_n 0, 1) := dk_42 (dk_at dksX7_canGo_8 0 rfl rfl)
theorem dX7_canGo_191 : decode cX7_canGo 191 = .ok (.iload_n 3, 1) := dk_29 (dk_at dksX7_canGo_8 1 rfl rfl)
theorem dX7_canGo_192 : decode cX7_canGo 192 = .ok (.iload 4, 2) := dk_21 4 (dk_at dksX7_canGo_8 2 rfl rfl)
theorem dX7_canGo_194 : decode cX7_canGo 194 = .ok (.invokevirtual 455, 3) := dk_182 1 199 (dk_at dksX7_canGo_8 4 rfl rfl)
theorem dX7_canGo_197 : decode cX7_canGo 197 = .ok (.istore 8, 2) := dk_54 8 (dk_at dksX7_canGo_8 7 rfl rfl)
theorem dX7_canGo_199 : decode cX7_canGo 199 = .ok (.iload 8, 2) := dk_21 8 (dk_at dksX7_canGo_8 9 rfl rfl)
theorem dX7_canGo_201 : decode cX7_canGo 201 = .ok (.iconst (-1), 1) := dk_2 (dk_at dksX7_canGo_8 11 rfl rfl)
theorem dX7_canGo_202 : decode cX7_canGo 202 = .ok (.if_icmp .eq 17, 3) := dk_159 0 17 (dk_at dksX7_canGo_8 12 rfl rfl)
theorem dX7_canGo_205 : decode cX7_canGo 205 = .ok (.aload_n 0, 1) := dk_42 (dk_at dksX7_canGo_8 15 rfl rfl)
theorem dX7_canGo_206 : decode cX7_canGo 206 = .ok (.iload 8, 2) := dk_21 8 (dk_at dksX7_canGo_8 16 rfl rfl)
theorem dX7_canGo_208 : decode cX7_canGo 208 = .ok (.invokevirtual 468, 3) := dk_182 1 212 (dk_at dksX7_canGo_8 18 rfl rfl)
theorem dX7_canGo_211 : decode cX7_canGo 211 = .ok (.aload_n 0, 1) := dk_42 (dk_at dksX7_canGo_8 21 rfl rfl)
theorem dX7_canGo_212 : decode cX7_canGo 212 = .ok (.iload_n 1, 1) := dk_27 (dk_at dksX7_canGo_8 22 rfl rfl)
theorem dX7_canGo_213 : decode cX7_canGo 213 = .ok (.invokevirtual 468, 3) := dk_182 1 212 (dk_at dksX7_canGo_9 0 rfl rfl)
theorem dX7_canGo_216 : decode cX7_canGo 216 = .ok (.if_icmp .eq 7, 3) := dk_159 0 7 (dk_at dksX7_canGo_9 3 rfl rfl)
theorem dX7_canGo_219 : decode cX7_canGo 219 = .ok (.iconst 1, 1) := dk_4 (dk_at dksX7_canGo_9 6 rfl rfl)
theorem dX7_canGo_220 : decode cX7_canGo 220 = .ok (.goto 4, 3) := dk_167 0 4 (dk_at dksX7_canGo_9 7 rfl rfl)
theorem dX7_canGo_223 : decode cX7_canGo 223 = .ok (.iconst 0, 1) := dk_3 (dk_at dksX7_canGo_9 10 rfl rfl)
theorem dX7_canGo_224 : decode cX7_canGo 224 = .ok (.ireturn, 1) := dk_172 (dk_at dksX7_canGo_9 11 rfl rfl)
abbrev cX7_abs : ByteArray := prog_25_method_45_code
def yX7_abs : MethodName := ⟨RX7, "abs", "(I)I"⟩
def dkwX7_abs_0 : List UInt8 := [26, 156, 0, 8, 26, 116, 167, 0, 4, 26, 172]
abbrev dktX7_abs_0 : List UInt8 := dkwX7_abs_0 ++ []
theorem dksX7_abs_0 : cX7_abs.data.toList.drop 0 = dktX7_abs_0 := by decide +kernel
theorem dX7_abs_0 : decode cX7_abs 0 = .ok (.iload_n 0, 1) := dk_26 (dk_at dksX7_abs_0 0 rfl rfl)
theorem dX7_abs_1 : decode cX7_abs 1 = .ok (.ifCond .ge 8, 3) := dk_156 0 8 (dk_at dksX7_abs_0 1 rfl rfl)
theorem dX7_abs_4 : decode cX7_abs 4 = .ok (.iload_n 0, 1) := dk_26 (dk_at dksX7_abs_0 4 rfl rfl)
theorem dX7_abs_5 : decode cX7_abs 5 = .ok (.ineg, 1) := dk_116 (dk_at dksX7_abs_0 5 rfl rfl)
theorem dX7_abs_6 : decode cX7_abs 6 = .ok (.goto 4, 3) := dk_167 0 4 (dk_at dksX7_abs_0 6 rfl rfl)
theorem dX7_abs_9 : decode cX7_abs 9 = .ok (.iload_n 0, 1) := dk_26 (dk_at dksX7_abs_0 9 rfl rfl)
theorem dX7_abs_10 : decode cX7_abs 10 = .ok (.ireturn, 1) := dk_172 (dk_at dksX7_abs_0 10 rfl rfl)
abbrev cX7_rowOf : ByteArray := prog_25_method_37_code
def yX7_rowOf : MethodName := ⟨RX7, "rowOf", "(I)I"⟩
def dkwX7_rowOf_0 : List UInt8 := [42, 180, 0, 154, 5, 5, 27, 104, 96, 4, 96, 46, 172]
abbrev dktX7_rowOf_0 : List UInt8 := dkwX7_rowOf_0 ++ []
theorem dksX7_rowOf_0 : cX7_rowOf.data.toList.drop 0 = dktX7_rowOf_0 := by decide +kernel
theorem dX7_rowOf_0 : decode cX7_rowOf 0 = .ok (.aload_n 0, 1) := dk_42 (dk_at dksX7_rowOf_0 0 rfl rfl)
theorem dX7_rowOf_1 : decode cX7_rowOf 1 = .ok (.getfield 154, 3) := dk_180 0 154 (dk_at dksX7_rowOf_0 1 rfl rfl)
theorem dX7_rowOf_4 : decode cX7_rowOf 4 = .ok (.iconst 2, 1) := dk_5 (dk_at dksX7_rowOf_0 4 rfl rfl)
theorem dX7_rowOf_5 : decode cX7_rowOf 5 = .ok (.iconst 2, 1) := dk_5 (dk_at dksX7_rowOf_0 5 rfl rfl)
theorem dX7_rowOf_6 : decode cX7_rowOf 6 = .ok (.iload_n 1, 1) := dk_27 (dk_at dksX7_rowOf_0 6 rfl rfl)
theorem dX7_rowOf_7 : decode cX7_rowOf 7 = .ok (.imul, 1) := dk_104 (dk_at dksX7_rowOf_0 7 rfl rfl)
theorem dX7_rowOf_8 : decode cX7_rowOf 8 = .ok (.iadd, 1) := dk_96 (dk_at dksX7_rowOf_0 8 rfl rfl)
theorem dX7_rowOf_9 : decode cX7_rowOf 9 = .ok (.iconst 1, 1) := dk_4 (dk_at dksX7_rowOf_0 9 rfl rfl)
theorem dX7_rowOf_10 : decode cX7_rowOf 10 = .ok (.iadd, 1) := dk_96 (dk_at dksX7_rowOf_0 10 rfl rfl)
theorem dX7_rowOf_11 : decode cX7_rowOf 11 = .ok (.iaload, 1) := dk_46 (dk_at dksX7_rowOf_0 11 rfl rfl)
theorem dX7_rowOf_12 : decode cX7_rowOf 12 = .ok (.ireturn, 1) := dk_172 (dk_at dksX7_rowOf_0 12 rfl rfl)
abbrev cX7_farOff : ByteArray := prog_25_method_46_code
def yX7_farOff : MethodName := ⟨RX7, "farOff", "(IIII)I"⟩
def dkwX7_farOff_1 : List UInt8 := [21, 4, 167, 0, 5, 21, 5, 172]
abbrev dktX7_farOff_1 : List UInt8 := dkwX7_farOff_1 ++ []
def dkwX7_farOff_0 : List UInt8 := [26, 28, 100, 184, 1, 193, 54, 4, 27, 29, 100, 184, 1, 193, 54, 5, 21, 4, 21, 5, 164, 0, 8]
abbrev dktX7_farOff_0 : List UInt8 := dkwX7_farOff_0 ++ dktX7_farOff_1
theorem dksX7_farOff_0 : cX7_farOff.data.toList.drop 0 = dktX7_farOff_0 := by decide +kernel
theorem dksX7_farOff_1 : cX7_farOff.data.toList.drop 23 = dktX7_farOff_1 := dk_seg dksX7_farOff_0 23 rfl rfl
theorem dX7_farOff_0 : decode cX7_farOff 0 = .ok (.iload_n 0, 1) := dk_26 (dk_at dksX7_farOff_0 0 rfl rfl)
theorem dX7_farOff_1 : decode cX7_farOff 1 = .ok (.iload_n 2, 1) := dk_28 (dk_at dksX7_farOff_0 1 rfl rfl)
theorem dX7_farOff_2 : decode cX7_farOff 2 = .ok (.isub, 1) := dk_100 (dk_at dksX7_farOff_0 2 rfl rfl)
theorem dX7_farOff_3 : decode cX7_farOff 3 = .ok (.invokestatic 449, 3) := dk_184 1 193 (dk_at dksX7_farOff_0 3 rfl rfl)
theorem dX7_farOff_6 : decode cX7_farOff 6 = .ok (.istore 4, 2) := dk_54 4 (dk_at dksX7_farOff_0 6 rfl rfl)
theorem dX7_farOff_8 : decode cX7_farOff 8 = .ok (.iload_n 1, 1) := dk_27 (dk_at dksX7_farOff_0 8 rfl rfl)
theorem dX7_farOff_9 : decode cX7_farOff 9 = .ok (.iload_n 3, 1) := dk_29 (dk_at dksX7_farOff_0 9 rfl rfl)
theorem dX7_farOff_10 : decode cX7_farOff 10 = .ok (.isub, 1) := dk_100 (dk_at dksX7_farOff_0 10 rfl rfl)
theorem dX7_farOff_11 : decode cX7_farOff 11 = .ok (.invokestatic 449, 3) := dk_184 1 193 (dk_at dksX7_farOff_0 11 rfl rfl)
theorem dX7_farOff_14 : decode cX7_farOff 14 = .ok (.istore 5, 2) := dk_54 5 (dk_at dksX7_farOff_0 14 rfl rfl)
theorem dX7_farOff_16 : decode cX7_farOff 16 = .ok (.iload 4, 2) := dk_21 4 (dk_at dksX7_farOff_0 16 rfl rfl)
theorem dX7_farOff_18 : decode cX7_farOff 18 = .ok (.iload 5, 2) := dk_21 5 (dk_at dksX7_farOff_0 18 rfl rfl)
theorem dX7_farOff_20 : decode cX7_farOff 20 = .ok (.if_icmp .le 8, 3) := dk_164 0 8 (dk_at dksX7_farOff_0 20 rfl rfl)
theorem dX7_farOff_23 : decode cX7_farOff 23 = .ok (.iload 4, 2) := dk_21 4 (dk_at dksX7_farOff_1 0 rfl rfl)
theorem dX7_farOff_25 : decode cX7_farOff 25 = .ok (.goto 5, 3) := dk_167 0 5 (dk_at dksX7_farOff_1 2 rfl rfl)
theorem dX7_farOff_28 : decode cX7_farOff 28 = .ok (.iload 5, 2) := dk_21 5 (dk_at dksX7_farOff_1 5 rfl rfl)
theorem dX7_farOff_30 : decode cX7_farOff 30 = .ok (.ireturn, 1) := dk_172 (dk_at dksX7_farOff_1 7 rfl rfl)
abbrev cX7_isWayFree : ByteArray := prog_25_method_48_code
def yX7_isWayFree : MethodName := ⟨RX7, "isWayFree", "(III)Z"⟩
def dkwX7_isWayFree_3 : List UInt8 := [21, 6, 21, 4, 96, 54, 6, 21, 7, 21, 5, 96, 54, 7, 167, 255, 216, 4, 172]
abbrev dktX7_isWayFree_3 : List UInt8 := dkwX7_isWayFree_3 ++ []
def dkwX7_isWayFree_2 : List UInt8 := [160, 0, 9, 21, 7, 29, 159, 0, 34, 42, 21, 6, 21, 7, 182, 1, 199, 2, 159, 0, 5, 3, 172]
abbrev dktX7_isWayFree_2 : List UInt8 := dkwX7_isWayFree_2 ++ dktX7_isWayFree_3
def dkwX7_isWayFree_1 : List UInt8 := [42, 27, 182, 1, 183, 21, 4, 96, 54, 6, 42, 27, 182, 1, 190, 21, 5, 96, 54, 7, 21, 6, 28]
abbrev dktX7_isWayFree_1 : List UInt8 := dkwX7_isWayFree_1 ++ dktX7_isWayFree_2
def dkwX7_isWayFree_0 : List UInt8 := [28, 42, 27, 182, 1, 183, 100, 184, 1, 196, 54, 4, 29, 42, 27, 182, 1, 190, 100, 184, 1, 196, 54, 5]
abbrev dktX7_isWayFree_0 : List UInt8 := dkwX7_isWayFree_0 ++ dktX7_isWayFree_1
theorem dksX7_isWayFree_0 : cX7_isWayFree.data.toList.drop 0 = dktX7_isWayFree_0 := by decide +kernel
theorem dksX7_isWayFree_1 : cX7_isWayFree.data.toList.drop 24 = dktX7_isWayFree_1 := dk_seg dksX7_isWayFree_0 24 rfl rfl
theorem dksX7_isWayFree_2 : cX7_isWayFree.data.toList.drop 47 = dktX7_isWayFree_2 := dk_seg dksX7_isWayFree_1 23 rfl rfl
theorem dksX7_isWayFree_3 : cX7_isWayFree.data.toList.drop 70 = dktX7_isWayFree_3 := dk_seg dksX7_isWayFree_2 23 rfl rfl
theorem dX7_isWayFree_0 : decode cX7_isWayFree 0 = .ok (.iload_n 2, 1) := dk_28 (dk_at dksX7_isWayFree_0 0 rfl rfl)
theorem dX7_isWayFree_1 : decode cX7_isWayFree 1 = .ok (.aload_n 0, 1) := dk_42 (dk_at dksX7_isWayFree_0 1 rfl rfl)
theorem dX7_isWayFree_2 : decode cX7_isWayFree 2 = .ok (.iload_n 1, 1) := dk_27 (dk_at dksX7_isWayFree_0 2 rfl rfl)
theorem dX7_isWayFree_3 : decode cX7_isWayFree 3 = .ok (.invokevirtual 439, 3) := dk_182 1 183 (dk_at dksX7_isWayFree_0 3 rfl rfl)
theorem dX7_isWayFree_6 : decode cX7_isWayFree 6 = .ok (.isub, 1) := dk_100 (dk_at dksX7_isWayFree_0 6 rfl rfl)
theorem dX7_isWayFree_7 : decode cX7_isWayFree 7 = .ok (.invokestatic 452, 3) := dk_184 1 196 (dk_at dksX7_isWayFree_0 7 rfl rfl)
theorem dX7_isWayFree_10 : decode cX7_isWayFree 10 = .ok (.istore 4, 2) := dk_54 4 (dk_at dksX7_isWayFree_0 10 rfl rfl)
theorem dX7_isWayFree_12 : decode cX7_isWayFree 12 = .ok (.iload_n 3, 1) := dk_29 (dk_at dksX7_isWayFree_0 12 rfl rfl)
theorem dX7_isWayFree_13 : decode cX7_isWayFree 13 = .ok (.aload_n 0, 1) := dk_42 (dk_at dksX7_isWayFree_0 13 rfl rfl)
theorem dX7_isWayFree_14 : decode cX7_isWayFree 14 = .ok (.iload_n 1, 1) := dk_27 (dk_at dksX7_isWayFree_0 14 rfl rfl)
theorem dX7_isWayFree_15 : decode cX7_isWayFree 15 = .ok (.invokevirtual 446, 3) := dk_182 1 190 (dk_at dksX7_isWayFree_0 15 rfl rfl)
theorem dX7_isWayFree_18 : decode cX7_isWayFree 18 = .ok (.isub, 1) := dk_100 (dk_at dksX7_isWayFree_0 18 rfl rfl)
theorem dX7_isWayFree_19 : decode cX7_isWayFree 19 = .ok (.invokestatic 452, 3) := dk_184 1 196 (dk_at dksX7_isWayFree_0 19 rfl rfl)
theorem dX7_isWayFree_22 : decode cX7_isWayFree 22 = .ok (.istore 5, 2) := dk_54 5 (dk_at dksX7_isWayFree_0 22 rfl rfl)
theorem dX7_isWayFree_24 : decode cX7_isWayFree 24 = .ok (.aload_n 0, 1) := dk_42 (dk_at dksX7_isWayFree_1 0 rfl rfl)
theorem dX7_isWayFree_25 : decode cX7_isWayFree 25 = .ok (.iload_n 1, 1) := dk_27 (dk_at dksX7_isWayFree_1 1 rfl rfl)
theorem dX7_isWayFree_26 : decode cX7_isWayFree 26 = .ok (.invokevirtual 439, 3) := dk_182 1 183 (dk_at dksX7_isWayFree_1 2 rfl rfl)
theorem dX7_isWayFree_29 : decode cX7_isWayFree 29 = .ok (.iload 4, 2) := dk_21 4 (dk_at dksX7_isWayFree_1 5 rfl rfl)
theorem dX7_isWayFree_31 : decode cX7_isWayFree 31 = .ok (.iadd, 1) := dk_96 (dk_at dksX7_isWayFree_1 7 rfl rfl)
theorem dX7_isWayFree_32 : decode cX7_isWayFree 32 = .ok (.istore 6, 2) := dk_54 6 (dk_at dksX7_isWayFree_1 8 rfl rfl)
theorem dX7_isWayFree_34 : decode cX7_isWayFree 34 = .ok (.aload_n 0, 1) := dk_42 (dk_at dksX7_isWayFree_1 10 rfl rfl)
theorem dX7_isWayFree_35 : decode cX7_isWayFree 35 = .ok (.iload_n 1, 1) := dk_27 (dk_at dksX7_isWayFree_1 11 rfl rfl)
theorem dX7_isWayFree_36 : decode cX7_isWayFree 36 = .ok (.invokevirtual 446, 3) := dk_182 1 190 (dk_at dksX7_isWayFree_1 12 rfl rfl)
theorem dX7_isWayFree_39 : decode cX7_isWayFree 39 = .ok (.iload 5, 2) := dk_21 5 (dk_at dksX7_isWayFree_1 15 rfl rfl)
theorem dX7_isWayFree_41 : decode cX7_isWayFree 41 = .ok (.iadd, 1) := dk_96 (dk_at dksX7_isWayFree_1 17 rfl rfl)
theorem dX7_isWayFree_42 : decode cX7_isWayFree 42 = .ok (.istore 7, 2) := dk_54 7 (dk_at dksX7_isWayFree_1 18 rfl rfl)
theorem dX7_isWayFree_44 : decode cX7_isWayFree 44 = .ok (.iload 6, 2) := dk_21 6 (dk_at dksX7_isWayFree_1 20 rfl rfl)
theorem dX7_isWayFree_46 : decode cX7_isWayFree 46 = .ok (.iload_n 2, 1) := dk_28 (dk_at dksX7_isWayFree_1 22 rfl rfl)
theorem dX7_isWayFree_47 : decode cX7_isWayFree 47 = .ok (.if_icmp .ne 9, 3) := dk_160 0 9 (dk_at dksX7_isWayFree_2 0 rfl rfl)
theorem dX7_isWayFree_50 : decode cX7_isWayFree 50 = .ok (.iload 7, 2) := dk_21 7 (dk_at dksX7_isWayFree_2 3 rfl rfl)
theorem dX7_isWayFree_52 : decode cX7_isWayFree 52 = .ok (.iload_n 3, 1) := dk_29 (dk_at dksX7_isWayFree_2 5 rfl rfl)
theorem dX7_isWayFree_53 : decode cX7_isWayFree 53 = .ok (.if_icmp .eq 34, 3) := dk_159 0 34 (dk_at dksX7_isWayFree_2 6 rfl rfl)
theorem dX7_isWayFree_56 : decode cX7_isWayFree 56 = .ok (.aload_n 0, 1) := dk_42 (dk_at dksX7_isWayFree_2 9 rfl rfl)
theorem dX7_isWayFree_57 : decode cX7_isWayFree 57 = .ok (.iload 6, 2) := dk_21 6 (dk_at dksX7_isWayFree_2 10 rfl rfl)
theorem dX7_isWayFree_59 : decode cX7_isWayFree 59 = .ok (.iload 7, 2) := dk_21 7 (dk_at dksX7_isWayFree_2 12 rfl rfl)
theorem dX7_isWayFree_61 : decode cX7_isWayFree 61 = .ok (.invokevirtual 455, 3) := dk_182 1 199 (dk_at dksX7_isWayFree_2 14 rfl rfl)
theorem dX7_isWayFree_64 : decode cX7_isWayFree 64 = .ok (.iconst (-1), 1) := dk_2 (dk_at dksX7_isWayFree_2 17 rfl rfl)
theorem dX7_isWayFree_65 : decode cX7_isWayFree 65 = .ok (.if_icmp .eq 5, 3) := dk_159 0 5 (dk_at dksX7_isWayFree_2 18 rfl rfl)
theorem dX7_isWayFree_68 : decode cX7_isWayFree 68 = .ok (.iconst 0, 1) := dk_3 (dk_at dksX7_isWayFree_2 21 rfl rfl)
theorem dX7_isWayFree_69 : decode cX7_isWayFree 69 = .ok (.ireturn, 1) := dk_172 (dk_at dksX7_isWayFree_2 22 rfl rfl)
theorem dX7_isWayFree_70 : decode cX7_isWayFree 70 = .ok (.iload 6, 2) := dk_21 6 (dk_at dksX7_isWayFree_3 0 rfl rfl)
theorem dX7_isWayFree_72 : decode cX7_isWayFree 72 = .ok (.iload 4, 2) := dk_21 4 (dk_at dksX7_isWayFree_3 2 rfl rfl)
theorem dX7_isWayFree_74 : decode cX7_isWayFree 74 = .ok (.iadd, 1) := dk_96 (dk_at dksX7_isWayFree_3 4 rfl rfl)
theorem dX7_isWayFree_75 : decode cX7_isWayFree 75 = .ok (.istore 6, 2) := dk_54 6 (dk_at dksX7_isWayFree_3 5 rfl rfl)
theorem dX7_isWayFree_77 : decode cX7_isWayFree 77 = .ok (.iload 7, 2) := dk_21 7 (dk_at dksX7_isWayFree_3 7 rfl rfl)
theorem dX7_isWayFree_79 : decode cX7_isWayFree 79 = .ok (.iload 5, 2) := dk_21 5 (dk_at dksX7_isWayFree_3 9 rfl rfl)
theorem dX7_isWayFree_81 : decode cX7_isWayFree 81 = .ok (.iadd, 1) := dk_96 (dk_at dksX7_isWayFree_3 11 rfl rfl)
theorem dX7_isWayFree_82 : decode cX7_isWayFree 82 = .ok (.istore 7, 2) := dk_54 7 (dk_at dksX7_isWayFree_3 12 rfl rfl)
theorem dX7_isWayFree_84 : decode cX7_isWayFree 84 = .ok (.goto (-40), 3) := dk_167 255 216 (dk_at dksX7_isWayFree_3 14 rfl rfl)
theorem dX7_isWayFree_87 : decode cX7_isWayFree 87 = .ok (.iconst 1, 1) := dk_4 (dk_at dksX7_isWayFree_3 17 rfl rfl)
theorem dX7_isWayFree_88 : decode cX7_isWayFree 88 = .ok (.ireturn, 1) := dk_172 (dk_at dksX7_isWayFree_3 18 rfl rfl)
abbrev cX7_sign : ByteArray := prog_25_method_47_code
def yX7_sign : MethodName := ⟨RX7, "sign", "(I)I"⟩
def dkwX7_sign_0 : List UInt8 := [26, 156, 0, 7, 2, 167, 0, 12, 26, 158, 0, 7, 4, 167, 0, 4, 3, 172]
abbrev dktX7_sign_0 : List UInt8 := dkwX7_sign_0 ++ []
theorem dksX7_sign_0 : cX7_sign.data.toList.drop 0 = dktX7_sign_0 := by decide +kernel
theorem dX7_sign_0 : decode cX7_sign 0 = .ok (.iload_n 0, 1) := dk_26 (dk_at dksX7_sign_0 0 rfl rfl)
theorem dX7_sign_1 : decode cX7_sign 1 = .ok (.ifCond .ge 7, 3) := dk_156 0 7 (dk_at dksX7_sign_0 1 rfl rfl)
theorem dX7_sign_4 : decode cX7_sign 4 = .ok (.iconst (-1), 1) := dk_2 (dk_at dksX7_sign_0 4 rfl rfl)
theorem dX7_sign_5 : decode cX7_sign 5 = .ok (.goto 12, 3) := dk_167 0 12 (dk_at dksX7_sign_0 5 rfl rfl)
theorem dX7_sign_8 : decode cX7_sign 8 = .ok (.iload_n 0, 1) := dk_26 (dk_at dksX7_sign_0 8 rfl rfl)
theorem dX7_sign_9 : decode cX7_sign 9 = .ok (.ifCond .le 7, 3) := dk_158 0 7 (dk_at dksX7_sign_0 9 rfl rfl)
theorem dX7_sign_12 : decode cX7_sign 12 = .ok (.iconst 1, 1) := dk_4 (dk_at dksX7_sign_0 12 rfl rfl)
theorem dX7_sign_13 : decode cX7_sign 13 = .ok (.goto 4, 3) := dk_167 0 4 (dk_at dksX7_sign_0 13 rfl rfl)
theorem dX7_sign_16 : decode cX7_sign 16 = .ok (.iconst 0, 1) := dk_3 (dk_at dksX7_sign_0 16 rfl rfl)
theorem dX7_sign_17 : decode cX7_sign 17 = .ok (.ireturn, 1) := dk_172 (dk_at dksX7_sign_0 17 rfl rfl)
abbrev cX7_manAt : ByteArray := prog_25_method_44_code
def yX7_manAt : MethodName := ⟨RX7, "manAt", "(II)I"⟩
def dkwX7_manAt_1 : List UInt8 := [28, 160, 0, 5, 29, 172, 132, 3, 1, 167, 255, 225, 2, 172]
abbrev dktX7_manAt_1 : List UInt8 := dkwX7_manAt_1 ++ []
def dkwX7_manAt_0 : List UInt8 := [3, 62, 29, 42, 182, 1, 177, 162, 0, 29, 42, 29, 182, 1, 183, 27, 160, 0, 14, 42, 29, 182, 1, 190]
abbrev dktX7_manAt_0 : List UInt8 := dkwX7_manAt_0 ++ dktX7_manAt_1
theorem dksX7_manAt_0 : cX7_manAt.data.toList.drop 0 = dktX7_manAt_0 := by decide +kernel
theorem dksX7_manAt_1 : cX7_manAt.data.toList.drop 24 = dktX7_manAt_1 := dk_seg dksX7_manAt_0 24 rfl rfl
theorem dX7_manAt_0 : decode cX7_manAt 0 = .ok (.iconst 0, 1) := dk_3 (dk_at dksX7_manAt_0 0 rfl rfl)
theorem dX7_manAt_1 : decode cX7_manAt 1 = .ok (.istore_n 3, 1) := dk_62 (dk_at dksX7_manAt_0 1 rfl rfl)
theorem dX7_manAt_2 : decode cX7_manAt 2 = .ok (.iload_n 3, 1) := dk_29 (dk_at dksX7_manAt_0 2 rfl rfl)
theorem dX7_manAt_3 : decode cX7_manAt 3 = .ok (.aload_n 0, 1) := dk_42 (dk_at dksX7_manAt_0 3 rfl rfl)
theorem dX7_manAt_4 : decode cX7_manAt 4 = .ok (.invokevirtual 433, 3) := dk_182 1 177 (dk_at dksX7_manAt_0 4 rfl rfl)
theorem dX7_manAt_7 : decode cX7_manAt 7 = .ok (.if_icmp .ge 29, 3) := dk_162 0 29 (dk_at dksX7_manAt_0 7 rfl rfl)
theorem dX7_manAt_10 : decode cX7_manAt 10 = .ok (.aload_n 0, 1) := dk_42 (dk_at dksX7_manAt_0 10 rfl rfl)
theorem dX7_manAt_11 : decode cX7_manAt 11 = .ok (.iload_n 3, 1) := dk_29 (dk_at dksX7_manAt_0 11 rfl rfl)
theorem dX7_manAt_12 : decode cX7_manAt 12 = .ok (.invokevirtual 439, 3) := dk_182 1 183 (dk_at dksX7_manAt_0 12 rfl rfl)
theorem dX7_manAt_15 : decode cX7_manAt 15 = .ok (.iload_n 1, 1) := dk_27 (dk_at dksX7_manAt_0 15 rfl rfl)
theorem dX7_manAt_16 : decode cX7_manAt 16 = .ok (.if_icmp .ne 14, 3) := dk_160 0 14 (dk_at dksX7_manAt_0 16 rfl rfl)
theorem dX7_manAt_19 : decode cX7_manAt 19 = .ok (.aload_n 0, 1) := dk_42 (dk_at dksX7_manAt_0 19 rfl rfl)
theorem dX7_manAt_20 : decode cX7_manAt 20 = .ok (.iload_n 3, 1) := dk_29 (dk_at dksX7_manAt_0 20 rfl rfl)
theorem dX7_manAt_21 : decode cX7_manAt 21 = .ok (.invokevirtual 446, 3) := dk_182 1 190 (dk_at dksX7_manAt_0 21 rfl rfl)
theorem dX7_manAt_24 : decode cX7_manAt 24 = .ok (.iload_n 2, 1) := dk_28 (dk_at dksX7_manAt_1 0 rfl rfl)
theorem dX7_manAt_25 : decode cX7_manAt 25 = .ok (.if_icmp .ne 5, 3) := dk_160 0 5 (dk_at dksX7_manAt_1 1 rfl rfl)
theorem dX7_manAt_28 : decode cX7_manAt 28 = .ok (.iload_n 3, 1) := dk_29 (dk_at dksX7_manAt_1 4 rfl rfl)
theorem dX7_manAt_29 : decode cX7_manAt 29 = .ok (.ireturn, 1) := dk_172 (dk_at dksX7_manAt_1 5 rfl rfl)
theorem dX7_manAt_30 : decode cX7_manAt 30 = .ok (.iinc 3 1, 3) := dk_132 3 1 (dk_at dksX7_manAt_1 6 rfl rfl)
theorem dX7_manAt_33 : decode cX7_manAt 33 = .ok (.goto (-31), 3) := dk_167 255 225 (dk_at dksX7_manAt_1 9 rfl rfl)
theorem dX7_manAt_36 : decode cX7_manAt 36 = .ok (.iconst (-1), 1) := dk_2 (dk_at dksX7_manAt_1 12 rfl rfl)
theorem dX7_manAt_37 : decode cX7_manAt 37 = .ok (.ireturn, 1) := dk_172 (dk_at dksX7_manAt_1 13 rfl rfl)
abbrev cX7_menOf : ByteArray := prog_25_method_78_code
def yX7_menOf : MethodName := ⟨RX7, "menOf", "(I)I"⟩
def dkwX7_menOf_1 : List UInt8 := [182, 1, 212, 27, 160, 0, 6, 132, 2, 1, 132, 3, 1, 167, 255, 225, 28, 172]
abbrev dktX7_menOf_1 : List UInt8 := dkwX7_menOf_1 ++ []
def dkwX7_menOf_0 : List UInt8 := [3, 61, 3, 62, 29, 42, 182, 1, 177, 162, 0, 29, 42, 29, 182, 1, 202, 154, 0, 15, 42, 29]
abbrev dktX7_menOf_0 : List UInt8 := dkwX7_menOf_0 ++ dktX7_menOf_1
theorem dksX7_menOf_0 : cX7_menOf.data.toList.drop 0 = dktX7_menOf_0 := by decide +kernel
theorem dksX7_menOf_1 : cX7_menOf.data.toList.drop 22 = dktX7_menOf_1 := dk_seg dksX7_menOf_0 22 rfl rfl
theorem dX7_menOf_0 : decode cX7_menOf 0 = .ok (.iconst 0, 1) := dk_3 (dk_at dksX7_menOf_0 0 rfl rfl)
theorem dX7_menOf_1 : decode cX7_menOf 1 = .ok (.istore_n 2, 1) := dk_61 (dk_at dksX7_menOf_0 1 rfl rfl)
theorem dX7_menOf_2 : decode cX7_menOf 2 = .ok (.iconst 0, 1) := dk_3 (dk_at dksX7_menOf_0 2 rfl rfl)
theorem dX7_menOf_3 : decode cX7_menOf 3 = .ok (.istore_n 3, 1) := dk_62 (dk_at dksX7_menOf_0 3 rfl rfl)
theorem dX7_menOf_4 : decode cX7_menOf 4 = .ok (.iload_n 3, 1) := dk_29 (dk_at dksX7_menOf_0 4 rfl rfl)
theorem dX7_menOf_5 : decode cX7_menOf 5 = .ok (.aload_n 0, 1) := dk_42 (dk_at dksX7_menOf_0 5 rfl rfl)
theorem dX7_menOf_6 : decode cX7_menOf 6 = .ok (.invokevirtual 433, 3) := dk_182 1 177 (dk_at dksX7_menOf_0 6 rfl rfl)
theorem dX7_menOf_9 : decode cX7_menOf 9 = .ok (.if_icmp .ge 29, 3) := dk_162 0 29 (dk_at dksX7_menOf_0 9 rfl rfl)
theorem dX7_menOf_12 : decode cX7_menOf 12 = .ok (.aload_n 0, 1) := dk_42 (dk_at dksX7_menOf_0 12 rfl rfl)
theorem dX7_menOf_13 : decode cX7_menOf 13 = .ok (.iload_n 3, 1) := dk_29 (dk_at dksX7_menOf_0 13 rfl rfl)
theorem dX7_menOf_14 : decode cX7_menOf 14 = .ok (.invokevirtual 458, 3) := dk_182 1 202 (dk_at dksX7_menOf_0 14 rfl rfl)
theorem dX7_menOf_17 : decode cX7_menOf 17 = .ok (.ifCond .ne 15, 3) := dk_154 0 15 (dk_at dksX7_menOf_0 17 rfl rfl)
theorem dX7_menOf_20 : decode cX7_menOf 20 = .ok (.aload_n 0, 1) := dk_42 (dk_at dksX7_menOf_0 20 rfl rfl)
theorem dX7_menOf_21 : decode cX7_menOf 21 = .ok (.iload_n 3, 1) := dk_29 (dk_at dksX7_menOf_0 21 rfl rfl)
theorem dX7_menOf_22 : decode cX7_menOf 22 = .ok (.invokevirtual 468, 3) := dk_182 1 212 (dk_at dksX7_menOf_1 0 rfl rfl)
theorem dX7_menOf_25 : decode cX7_menOf 25 = .ok (.iload_n 1, 1) := dk_27 (dk_at dksX7_menOf_1 3 rfl rfl)
theorem dX7_menOf_26 : decode cX7_menOf 26 = .ok (.if_icmp .ne 6, 3) := dk_160 0 6 (dk_at dksX7_menOf_1 4 rfl rfl)
theorem dX7_menOf_29 : decode cX7_menOf 29 = .ok (.iinc 2 1, 3) := dk_132 2 1 (dk_at dksX7_menOf_1 7 rfl rfl)
theorem dX7_menOf_32 : decode cX7_menOf 32 = .ok (.iinc 3 1, 3) := dk_132 3 1 (dk_at dksX7_menOf_1 10 rfl rfl)
theorem dX7_menOf_35 : decode cX7_menOf 35 = .ok (.goto (-31), 3) := dk_167 255 225 (dk_at dksX7_menOf_1 13 rfl rfl)
theorem dX7_menOf_38 : decode cX7_menOf 38 = .ok (.iload_n 2, 1) := dk_28 (dk_at dksX7_menOf_1 16 rfl rfl)
theorem dX7_menOf_39 : decode cX7_menOf 39 = .ok (.ireturn, 1) := dk_172 (dk_at dksX7_menOf_1 17 rfl rfl)
abbrev cX7_bearAll : ByteArray := prog_25_method_77_code
def yX7_bearAll : MethodName := ⟨RX7, "bearAll", "()I"⟩
def dkwX7_bearAll_1 : List UInt8 := [132, 2, 1, 167, 255, 233, 27, 172]
abbrev dktX7_bearAll_1 : List UInt8 := dkwX7_bearAll_1 ++ []
def dkwX7_bearAll_0 : List UInt8 := [3, 60, 3, 61, 28, 42, 182, 1, 180, 162, 0, 21, 27, 42, 180, 0, 154, 16, 18, 28, 96, 46, 96, 60]
abbrev dktX7_bearAll_0 : List UInt8 := dkwX7_bearAll_0 ++ dktX7_bearAll_1
theorem dksX7_bearAll_0 : cX7_bearAll.data.toList.drop 0 = dktX7_bearAll_0 := by decide +kernel
theorem dksX7_bearAll_1 : cX7_bearAll.data.toList.drop 24 = dktX7_bearAll_1 := dk_seg dksX7_bearAll_0 24 rfl rfl
theorem dX7_bearAll_0 : decode cX7_bearAll 0 = .ok (.iconst 0, 1) := dk_3 (dk_at dksX7_bearAll_0 0 rfl rfl)
theorem dX7_bearAll_1 : decode cX7_bearAll 1 = .ok (.istore_n 1, 1) := dk_60 (dk_at dksX7_bearAll_0 1 rfl rfl)
theorem dX7_bearAll_2 : decode cX7_bearAll 2 = .ok (.iconst 0, 1) := dk_3 (dk_at dksX7_bearAll_0 2 rfl rfl)
theorem dX7_bearAll_3 : decode cX7_bearAll 3 = .ok (.istore_n 2, 1) := dk_61 (dk_at dksX7_bearAll_0 3 rfl rfl)
theorem dX7_bearAll_4 : decode cX7_bearAll 4 = .ok (.iload_n 2, 1) := dk_28 (dk_at dksX7_bearAll_0 4 rfl rfl)
theorem dX7_bearAll_5 : decode cX7_bearAll 5 = .ok (.aload_n 0, 1) := dk_42 (dk_at dksX7_bearAll_0 5 rfl rfl)
theorem dX7_bearAll_6 : decode cX7_bearAll 6 = .ok (.invokevirtual 436, 3) := dk_182 1 180 (dk_at dksX7_bearAll_0 6 rfl rfl)
theorem dX7_bearAll_9 : decode cX7_bearAll 9 = .ok (.if_icmp .ge 21, 3) := dk_162 0 21 (dk_at dksX7_bearAll_0 9 rfl rfl)
theorem dX7_bearAll_12 : decode cX7_bearAll 12 = .ok (.iload_n 1, 1) := dk_27 (dk_at dksX7_bearAll_0 12 rfl rfl)
theorem dX7_bearAll_13 : decode cX7_bearAll 13 = .ok (.aload_n 0, 1) := dk_42 (dk_at dksX7_bearAll_0 13 rfl rfl)
theorem dX7_bearAll_14 : decode cX7_bearAll 14 = .ok (.getfield 154, 3) := dk_180 0 154 (dk_at dksX7_bearAll_0 14 rfl rfl)
theorem dX7_bearAll_17 : decode cX7_bearAll 17 = .ok (.bipush 18, 2) := dk_16 18 (dk_at dksX7_bearAll_0 17 rfl rfl)
theorem dX7_bearAll_19 : decode cX7_bearAll 19 = .ok (.iload_n 2, 1) := dk_28 (dk_at dksX7_bearAll_0 19 rfl rfl)
theorem dX7_bearAll_20 : decode cX7_bearAll 20 = .ok (.iadd, 1) := dk_96 (dk_at dksX7_bearAll_0 20 rfl rfl)
theorem dX7_bearAll_21 : decode cX7_bearAll 21 = .ok (.iaload, 1) := dk_46 (dk_at dksX7_bearAll_0 21 rfl rfl)
theorem dX7_bearAll_22 : decode cX7_bearAll 22 = .ok (.iadd, 1) := dk_96 (dk_at dksX7_bearAll_0 22 rfl rfl)
theorem dX7_bearAll_23 : decode cX7_bearAll 23 = .ok (.istore_n 1, 1) := dk_60 (dk_at dksX7_bearAll_0 23 rfl rfl)
theorem dX7_bearAll_24 : decode cX7_bearAll 24 = .ok (.iinc 2 1, 3) := dk_132 2 1 (dk_at dksX7_bearAll_1 0 rfl rfl)
theorem dX7_bearAll_27 : decode cX7_bearAll 27 = .ok (.goto (-23), 3) := dk_167 255 233 (dk_at dksX7_bearAll_1 3 rfl rfl)
theorem dX7_bearAll_30 : decode cX7_bearAll 30 = .ok (.iload_n 1, 1) := dk_27 (dk_at dksX7_bearAll_1 6 rfl rfl)
theorem dX7_bearAll_31 : decode cX7_bearAll 31 = .ok (.ireturn, 1) := dk_172 (dk_at dksX7_bearAll_1 7 rfl rfl)
abbrev cX7_fieldMany : ByteArray := prog_25_method_33_code
def yX7_fieldMany : MethodName := ⟨RX7, "fieldMany", "()I"⟩
def dkwX7_fieldMany_0 : List UInt8 := [42, 180, 0, 120, 8, 46, 172]
abbrev dktX7_fieldMany_0 : List UInt8 := dkwX7_fieldMany_0 ++ []
theorem dksX7_fieldMany_0 : cX7_fieldMany.data.toList.drop 0 = dktX7_fieldMany_0 := by decide +kernel
theorem dX7_fieldMany_0 : decode cX7_fieldMany 0 = .ok (.aload_n 0, 1) := dk_42 (dk_at dksX7_fieldMany_0 0 rfl rfl)
theorem dX7_fieldMany_1 : decode cX7_fieldMany 1 = .ok (.getfield 120, 3) := dk_180 0 120 (dk_at dksX7_fieldMany_0 1 rfl rfl)
theorem dX7_fieldMany_4 : decode cX7_fieldMany 4 = .ok (.iconst 5, 1) := dk_8 (dk_at dksX7_fieldMany_0 4 rfl rfl)
theorem dX7_fieldMany_5 : decode cX7_fieldMany 5 = .ok (.iaload, 1) := dk_46 (dk_at dksX7_fieldMany_0 5 rfl rfl)
theorem dX7_fieldMany_6 : decode cX7_fieldMany 6 = .ok (.ireturn, 1) := dk_172 (dk_at dksX7_fieldMany_0 6 rfl rfl)
abbrev cX7_letter : ByteArray := prog_25_method_80_code
def yX7_letter : MethodName := ⟨RX7, "letter", "(III)I"⟩
def dkwX7_letter_5 : List UInt8 := [55, 4, 132, 7, 255, 167, 255, 239, 22, 4, 20, 1, 76, 113, 136, 172]
abbrev dktX7_letter_5 : List UInt8 := dkwX7_letter_5 ++ []
def dkwX7_letter_4 : List UInt8 := [161, 0, 5, 3, 172, 21, 6, 4, 100, 54, 7, 21, 7, 29, 164, 0, 17, 22, 4, 20, 1, 76, 109]
abbrev dktX7_letter_4 : List UInt8 := dkwX7_letter_4 ++ dktX7_letter_5
def dkwX7_letter_3 : List UInt8 := [9, 148, 158, 0, 17, 132, 6, 1, 22, 7, 20, 1, 76, 109, 55, 7, 167, 255, 238, 29, 21, 6]
abbrev dktX7_letter_3 : List UInt8 := dkwX7_letter_3 ++ dktX7_letter_4
def dkwX7_letter_2 : List UInt8 := [180, 0, 123, 16, 24, 16, 8, 27, 104, 96, 28, 96, 47, 55, 4, 3, 54, 6, 22, 4, 55, 7, 22, 7]
abbrev dktX7_letter_2 : List UInt8 := dkwX7_letter_2 ++ dktX7_letter_3
def dkwX7_letter_1 : List UInt8 := [100, 133, 184, 1, 65, 153, 0, 15, 29, 133, 9, 20, 2, 83, 184, 1, 65, 154, 0, 5, 2, 172, 42]
abbrev dktX7_letter_1 : List UInt8 := dkwX7_letter_1 ++ dktX7_letter_2
def dkwX7_letter_0 : List UInt8 := [27, 133, 9, 20, 2, 81, 184, 1, 65, 153, 0, 35, 28, 133, 9, 42, 180, 0, 120, 6, 27, 96, 46, 4]
abbrev dktX7_letter_0 : List UInt8 := dkwX7_letter_0 ++ dktX7_letter_1
theorem dksX7_letter_0 : cX7_letter.data.toList.drop 0 = dktX7_letter_0 := by decide +kernel
theorem dksX7_letter_1 : cX7_letter.data.toList.drop 24 = dktX7_letter_1 := dk_seg dksX7_letter_0 24 rfl rfl
theorem dksX7_letter_2 : cX7_letter.data.toList.drop 47 = dktX7_letter_2 := dk_seg dksX7_letter_1 23 rfl rfl
theorem dksX7_letter_3 : cX7_letter.data.toList.drop 71 = dktX7_letter_3 := dk_seg dksX7_letter_2 24 rfl rfl
theorem dksX7_letter_4 : cX7_letter.data.toList.drop 93 = dktX7_letter_4 := dk_seg dksX7_letter_3 22 rfl rfl
theorem dksX7_letter_5 : cX7_letter.data.toList.drop 116 = dktX7_letter_5 := dk_seg dksX7_letter_4 23 rfl rfl
theorem dX7_letter_0 : decode cX7_letter 0 = .ok (.iload_n 1, 1) := dk_27 (dk_at dksX7_letter_0 0 rfl rfl)
theorem dX7_letter_1 : decode cX7_letter 1 = .ok (.i2l, 1) := dk_133 (dk_at dksX7_letter_0 1 rfl rfl)
theorem dX7_letter_2 : decode cX7_letter 2 = .ok (.lconst 0, 1) := dk_9 (dk_at dksX7_letter_0 2 rfl rfl)
theorem dX7_letter_3 : decode cX7_letter 3 = .ok (.ldc2_w 593, 3) := dk_20 2 81 (dk_at dksX7_letter_0 3 rfl rfl)
theorem dX7_letter_6 : decode cX7_letter 6 = .ok (.invokestatic 321, 3) := dk_184 1 65 (dk_at dksX7_letter_0 6 rfl rfl)
theorem dX7_letter_9 : decode cX7_letter 9 = .ok (.ifCond .eq 35, 3) := dk_153 0 35 (dk_at dksX7_letter_0 9 rfl rfl)
theorem dX7_letter_12 : decode cX7_letter 12 = .ok (.iload_n 2, 1) := dk_28 (dk_at dksX7_letter_0 12 rfl rfl)
theorem dX7_letter_13 : decode cX7_letter 13 = .ok (.i2l, 1) := dk_133 (dk_at dksX7_letter_0 13 rfl rfl)
theorem dX7_letter_14 : decode cX7_letter 14 = .ok (.lconst 0, 1) := dk_9 (dk_at dksX7_letter_0 14 rfl rfl)
theorem dX7_letter_15 : decode cX7_letter 15 = .ok (.aload_n 0, 1) := dk_42 (dk_at dksX7_letter_0 15 rfl rfl)
theorem dX7_letter_16 : decode cX7_letter 16 = .ok (.getfield 120, 3) := dk_180 0 120 (dk_at dksX7_letter_0 16 rfl rfl)
theorem dX7_letter_19 : decode cX7_letter 19 = .ok (.iconst 3, 1) := dk_6 (dk_at dksX7_letter_0 19 rfl rfl)
theorem dX7_letter_20 : decode cX7_letter 20 = .ok (.iload_n 1, 1) := dk_27 (dk_at dksX7_letter_0 20 rfl rfl)
theorem dX7_letter_21 : decode cX7_letter 21 = .ok (.iadd, 1) := dk_96 (dk_at dksX7_letter_0 21 rfl rfl)
theorem dX7_letter_22 : decode cX7_letter 22 = .ok (.iaload, 1) := dk_46 (dk_at dksX7_letter_0 22 rfl rfl)
theorem dX7_letter_23 : decode cX7_letter 23 = .ok (.iconst 1, 1) := dk_4 (dk_at dksX7_letter_0 23 rfl rfl)
theorem dX7_letter_24 : decode cX7_letter 24 = .ok (.isub, 1) := dk_100 (dk_at dksX7_letter_1 0 rfl rfl)
theorem dX7_letter_25 : decode cX7_letter 25 = .ok (.i2l, 1) := dk_133 (dk_at dksX7_letter_1 1 rfl rfl)
theorem dX7_letter_26 : decode cX7_letter 26 = .ok (.invokestatic 321, 3) := dk_184 1 65 (dk_at dksX7_letter_1 2 rfl rfl)
theorem dX7_letter_29 : decode cX7_letter 29 = .ok (.ifCond .eq 15, 3) := dk_153 0 15 (dk_at dksX7_letter_1 5 rfl rfl)
theorem dX7_letter_32 : decode cX7_letter 32 = .ok (.iload_n 3, 1) := dk_29 (dk_at dksX7_letter_1 8 rfl rfl)
theorem dX7_letter_33 : decode cX7_letter 33 = .ok (.i2l, 1) := dk_133 (dk_at dksX7_letter_1 9 rfl rfl)
theorem dX7_letter_34 : decode cX7_letter 34 = .ok (.lconst 0, 1) := dk_9 (dk_at dksX7_letter_1 10 rfl rfl)
theorem dX7_letter_35 : decode cX7_letter 35 = .ok (.ldc2_w 595, 3) := dk_20 2 83 (dk_at dksX7_letter_1 11 rfl rfl)
theorem dX7_letter_38 : decode cX7_letter 38 = .ok (.invokestatic 321, 3) := dk_184 1 65 (dk_at dksX7_letter_1 14 rfl rfl)
theorem dX7_letter_41 : decode cX7_letter 41 = .ok (.ifCond .ne 5, 3) := dk_154 0 5 (dk_at dksX7_letter_1 17 rfl rfl)
theorem dX7_letter_44 : decode cX7_letter 44 = .ok (.iconst (-1), 1) := dk_2 (dk_at dksX7_letter_1 20 rfl rfl)
theorem dX7_letter_45 : decode cX7_letter 45 = .ok (.ireturn, 1) := dk_172 (dk_at dksX7_letter_1 21 rfl rfl)
theorem dX7_letter_46 : decode cX7_letter 46 = .ok (.aload_n 0, 1) := dk_42 (dk_at dksX7_letter_1 22 rfl rfl)
theorem dX7_letter_47 : decode cX7_letter 47 = .ok (.getfield 123, 3) := dk_180 0 123 (dk_at dksX7_letter_2 0 rfl rfl)
theorem dX7_letter_50 : decode cX7_letter 50 = .ok (.bipush 24, 2) := dk_16 24 (dk_at dksX7_letter_2 3 rfl rfl)
theorem dX7_letter_52 : decode cX7_letter 52 = .ok (.bipush 8, 2) := dk_16 8 (dk_at dksX7_letter_2 5 rfl rfl)
theorem dX7_letter_54 : decode cX7_letter 54 = .ok (.iload_n 1, 1) := dk_27 (dk_at dksX7_letter_2 7 rfl rfl)
theorem dX7_letter_55 : decode cX7_letter 55 = .ok (.imul, 1) := dk_104 (dk_at dksX7_letter_2 8 rfl rfl)
theorem dX7_letter_56 : decode cX7_letter 56 = .ok (.iadd, 1) := dk_96 (dk_at dksX7_letter_2 9 rfl rfl)
theorem dX7_letter_57 : decode cX7_letter 57 = .ok (.iload_n 2, 1) := dk_28 (dk_at dksX7_letter_2 10 rfl rfl)
theorem dX7_letter_58 : decode cX7_letter 58 = .ok (.iadd, 1) := dk_96 (dk_at dksX7_letter_2 11 rfl rfl)
theorem dX7_letter_59 : decode cX7_letter 59 = .ok (.laload, 1) := dk_47 (dk_at dksX7_letter_2 12 rfl rfl)
theorem dX7_letter_60 : decode cX7_letter 60 = .ok (.lstore 4, 2) := dk_55 4 (dk_at dksX7_letter_2 13 rfl rfl)
theorem dX7_letter_62 : decode cX7_letter 62 = .ok (.iconst 0, 1) := dk_3 (dk_at dksX7_letter_2 15 rfl rfl)
theorem dX7_letter_63 : decode cX7_letter 63 = .ok (.istore 6, 2) := dk_54 6 (dk_at dksX7_letter_2 16 rfl rfl)
theorem dX7_letter_65 : decode cX7_letter 65 = .ok (.lload 4, 2) := dk_22 4 (dk_at dksX7_letter_2 18 rfl rfl)
theorem dX7_letter_67 : decode cX7_letter 67 = .ok (.lstore 7, 2) := dk_55 7 (dk_at dksX7_letter_2 20 rfl rfl)
theorem dX7_letter_69 : decode cX7_letter 69 = .ok (.lload 7, 2) := dk_22 7 (dk_at dksX7_letter_2 22 rfl rfl)
theorem dX7_letter_71 : decode cX7_letter 71 = .ok (.lconst 0, 1) := dk_9 (dk_at dksX7_letter_3 0 rfl rfl)
theorem dX7_letter_72 : decode cX7_letter 72 = .ok (.lcmp, 1) := dk_148 (dk_at dksX7_letter_3 1 rfl rfl)
theorem dX7_letter_73 : decode cX7_letter 73 = .ok (.ifCond .le 17, 3) := dk_158 0 17 (dk_at dksX7_letter_3 2 rfl rfl)
theorem dX7_letter_76 : decode cX7_letter 76 = .ok (.iinc 6 1, 3) := dk_132 6 1 (dk_at dksX7_letter_3 5 rfl rfl)
theorem dX7_letter_79 : decode cX7_letter 79 = .ok (.lload 7, 2) := dk_22 7 (dk_at dksX7_letter_3 8 rfl rfl)
theorem dX7_letter_81 : decode cX7_letter 81 = .ok (.ldc2_w 332, 3) := dk_20 1 76 (dk_at dksX7_letter_3 10 rfl rfl)
theorem dX7_letter_84 : decode cX7_letter 84 = .ok (.ldiv, 1) := dk_109 (dk_at dksX7_letter_3 13 rfl rfl)
theorem dX7_letter_85 : decode cX7_letter 85 = .ok (.lstore 7, 2) := dk_55 7 (dk_at dksX7_letter_3 14 rfl rfl)
theorem dX7_letter_87 : decode cX7_letter 87 = .ok (.goto (-18), 3) := dk_167 255 238 (dk_at dksX7_letter_3 16 rfl rfl)
theorem dX7_letter_90 : decode cX7_letter 90 = .ok (.iload_n 3, 1) := dk_29 (dk_at dksX7_letter_3 19 rfl rfl)
theorem dX7_letter_91 : decode cX7_letter 91 = .ok (.iload 6, 2) := dk_21 6 (dk_at dksX7_letter_3 20 rfl rfl)
theorem dX7_letter_93 : decode cX7_letter 93 = .ok (.if_icmp .lt 5, 3) := dk_161 0 5 (dk_at dksX7_letter_4 0 rfl rfl)
theorem dX7_letter_96 : decode cX7_letter 96 = .ok (.iconst 0, 1) := dk_3 (dk_at dksX7_letter_4 3 rfl rfl)
theorem dX7_letter_97 : decode cX7_letter 97 = .ok (.ireturn, 1) := dk_172 (dk_at dksX7_letter_4 4 rfl rfl)
theorem dX7_letter_98 : decode cX7_letter 98 = .ok (.iload 6, 2) := dk_21 6 (dk_at dksX7_letter_4 5 rfl rfl)
theorem dX7_letter_100 : decode cX7_letter 100 = .ok (.iconst 1, 1) := dk_4 (dk_at dksX7_letter_4 7 rfl rfl)
theorem dX7_letter_101 : decode cX7_letter 101 = .ok (.isub, 1) := dk_100 (dk_at dksX7_letter_4 8 rfl rfl)
theorem dX7_letter_102 : decode cX7_letter 102 = .ok (.istore 7, 2) := dk_54 7 (dk_at dksX7_letter_4 9 rfl rfl)
theorem dX7_letter_104 : decode cX7_letter 104 = .ok (.iload 7, 2) := dk_21 7 (dk_at dksX7_letter_4 11 rfl rfl)
theorem dX7_letter_106 : decode cX7_letter 106 = .ok (.iload_n 3, 1) := dk_29 (dk_at dksX7_letter_4 13 rfl rfl)
theorem dX7_letter_107 : decode cX7_letter 107 = .ok (.if_icmp .le 17, 3) := dk_164 0 17 (dk_at dksX7_letter_4 14 rfl rfl)
theorem dX7_letter_110 : decode cX7_letter 110 = .ok (.lload 4, 2) := dk_22 4 (dk_at dksX7_letter_4 17 rfl rfl)
theorem dX7_letter_112 : decode cX7_letter 112 = .ok (.ldc2_w 332, 3) := dk_20 1 76 (dk_at dksX7_letter_4 19 rfl rfl)
theorem dX7_letter_115 : decode cX7_letter 115 = .ok (.ldiv, 1) := dk_109 (dk_at dksX7_letter_4 22 rfl rfl)
theorem dX7_letter_116 : decode cX7_letter 116 = .ok (.lstore 4, 2) := dk_55 4 (dk_at dksX7_letter_5 0 rfl rfl)
theorem dX7_letter_118 : decode cX7_letter 118 = .ok (.iinc 7 (-1), 3) := dk_132 7 255 (dk_at dksX7_letter_5 2 rfl rfl)
theorem dX7_letter_121 : decode cX7_letter 121 = .ok (.goto (-17), 3) := dk_167 255 239 (dk_at dksX7_letter_5 5 rfl rfl)
theorem dX7_letter_124 : decode cX7_letter 124 = .ok (.lload 4, 2) := dk_22 4 (dk_at dksX7_letter_5 8 rfl rfl)
theorem dX7_letter_126 : decode cX7_letter 126 = .ok (.ldc2_w 332, 3) := dk_20 1 76 (dk_at dksX7_letter_5 10 rfl rfl)
theorem dX7_letter_129 : decode cX7_letter 129 = .ok (.lrem, 1) := dk_113 (dk_at dksX7_letter_5 13 rfl rfl)
theorem dX7_letter_130 : decode cX7_letter 130 = .ok (.l2i, 1) := dk_136 (dk_at dksX7_letter_5 14 rfl rfl)
theorem dX7_letter_131 : decode cX7_letter 131 = .ok (.ireturn, 1) := dk_172 (dk_at dksX7_letter_5 15 rfl rfl)
abbrev cX7_kind : ByteArray := prog_25_method_81_code
def yX7_kind : MethodName := ⟨RX7, "kind", "(II)I"⟩
def dkwX7_kind_1 : List UInt8 := [184, 1, 65, 153, 0, 19, 42, 180, 0, 130, 16, 20, 7, 27, 104, 96, 28, 96, 46, 167, 0, 4, 2, 172]
abbrev dktX7_kind_1 : List UInt8 := dkwX7_kind_1 ++ []
def dkwX7_kind_0 : List UInt8 := [27, 133, 9, 42, 180, 0, 120, 6, 46, 4, 100, 133, 184, 1, 65, 153, 0, 31, 28, 133, 9, 20, 2, 85]
abbrev dktX7_kind_0 : List UInt8 := dkwX7_kind_0 ++ dktX7_kind_1
theorem dksX7_kind_0 : cX7_kind.data.toList.drop 0 = dktX7_kind_0 := by decide +kernel
theorem dksX7_kind_1 : cX7_kind.data.toList.drop 24 = dktX7_kind_1 := dk_seg dksX7_kind_0 24 rfl rfl
theorem dX7_kind_0 : decode cX7_kind 0 = .ok (.iload_n 1, 1) := dk_27 (dk_at dksX7_kind_0 0 rfl rfl)
theorem dX7_kind_1 : decode cX7_kind 1 = .ok (.i2l, 1) := dk_133 (dk_at dksX7_kind_0 1 rfl rfl)
theorem dX7_kind_2 : decode cX7_kind 2 = .ok (.lconst 0, 1) := dk_9 (dk_at dksX7_kind_0 2 rfl rfl)
theorem dX7_kind_3 : decode cX7_kind 3 = .ok (.aload_n 0, 1) := dk_42 (dk_at dksX7_kind_0 3 rfl rfl)
theorem dX7_kind_4 : decode cX7_kind 4 = .ok (.getfield 120, 3) := dk_180 0 120 (dk_at dksX7_kind_0 4 rfl rfl)
theorem dX7_kind_7 : decode cX7_kind 7 = .ok (.iconst 3, 1) := dk_6 (dk_at dksX7_kind_0 7 rfl rfl)
theorem dX7_kind_8 : decode cX7_kind 8 = .ok (.iaload, 1) := dk_46 (dk_at dksX7_kind_0 8 rfl rfl)
theorem dX7_kind_9 : decode cX7_kind 9 = .ok (.iconst 1, 1) := dk_4 (dk_at dksX7_kind_0 9 rfl rfl)
theorem dX7_kind_10 : decode cX7_kind 10 = .ok (.isub, 1) := dk_100 (dk_at dksX7_kind_0 10 rfl rfl)
theorem dX7_kind_11 : decode cX7_kind 11 = .ok (.i2l, 1) := dk_133 (dk_at dksX7_kind_0 11 rfl rfl)
theorem dX7_kind_12 : decode cX7_kind 12 = .ok (.invokestatic 321, 3) := dk_184 1 65 (dk_at dksX7_kind_0 12 rfl rfl)
theorem dX7_kind_15 : decode cX7_kind 15 = .ok (.ifCond .eq 31, 3) := dk_153 0 31 (dk_at dksX7_kind_0 15 rfl rfl)
theorem dX7_kind_18 : decode cX7_kind 18 = .ok (.iload_n 2, 1) := dk_28 (dk_at dksX7_kind_0 18 rfl rfl)
theorem dX7_kind_19 : decode cX7_kind 19 = .ok (.i2l, 1) := dk_133 (dk_at dksX7_kind_0 19 rfl rfl)
theorem dX7_kind_20 : decode cX7_kind 20 = .ok (.lconst 0, 1) := dk_9 (dk_at dksX7_kind_0 20 rfl rfl)
theorem dX7_kind_21 : decode cX7_kind 21 = .ok (.ldc2_w 597, 3) := dk_20 2 85 (dk_at dksX7_kind_0 21 rfl rfl)
theorem dX7_kind_24 : decode cX7_kind 24 = .ok (.invokestatic 321, 3) := dk_184 1 65 (dk_at dksX7_kind_1 0 rfl rfl)
theorem dX7_kind_27 : decode cX7_kind 27 = .ok (.ifCond .eq 19, 3) := dk_153 0 19 (dk_at dksX7_kind_1 3 rfl rfl)
theorem dX7_kind_30 : decode cX7_kind 30 = .ok (.aload_n 0, 1) := dk_42 (dk_at dksX7_kind_1 6 rfl rfl)
theorem dX7_kind_31 : decode cX7_kind 31 = .ok (.getfield 130, 3) := dk_180 0 130 (dk_at dksX7_kind_1 7 rfl rfl)
theorem dX7_kind_34 : decode cX7_kind 34 = .ok (.bipush 20, 2) := dk_16 20 (dk_at dksX7_kind_1 10 rfl rfl)
theorem dX7_kind_36 : decode cX7_kind 36 = .ok (.iconst 4, 1) := dk_7 (dk_at dksX7_kind_1 12 rfl rfl)
theorem dX7_kind_37 : decode cX7_kind 37 = .ok (.iload_n 1, 1) := dk_27 (dk_at dksX7_kind_1 13 rfl rfl)
theorem dX7_kind_38 : decode cX7_kind 38 = .ok (.imul, 1) := dk_104 (dk_at dksX7_kind_1 14 rfl rfl)
theorem dX7_kind_39 : decode cX7_kind 39 = .ok (.iadd, 1) := dk_96 (dk_at dksX7_kind_1 15 rfl rfl)
theorem dX7_kind_40 : decode cX7_kind 40 = .ok (.iload_n 2, 1) := dk_28 (dk_at dksX7_kind_1 16 rfl rfl)
theorem dX7_kind_41 : decode cX7_kind 41 = .ok (.iadd, 1) := dk_96 (dk_at dksX7_kind_1 17 rfl rfl)
theorem dX7_kind_42 : decode cX7_kind 42 = .ok (.iaload, 1) := dk_46 (dk_at dksX7_kind_1 18 rfl rfl)
theorem dX7_kind_43 : decode cX7_kind 43 = .ok (.goto 4, 3) := dk_167 0 4 (dk_at dksX7_kind_1 19 rfl rfl)
theorem dX7_kind_46 : decode cX7_kind 46 = .ok (.iconst (-1), 1) := dk_2 (dk_at dksX7_kind_1 22 rfl rfl)
theorem dX7_kind_47 : decode cX7_kind 47 = .ok (.ireturn, 1) := dk_172 (dk_at dksX7_kind_1 23 rfl rfl)
abbrev cX7_man : ByteArray := prog_25_method_82_code
def yX7_man : MethodName := ⟨RX7, "man", "(II)I"⟩
def dkwX7_man_3 : List UInt8 := [42, 27, 182, 1, 202, 153, 0, 7, 3, 167, 0, 8, 42, 27, 182, 1, 222, 172, 2, 172]
abbrev dktX7_man_3 : List UInt8 := dkwX7_man_3 ++ []
def dkwX7_man_2 : List UInt8 := [42, 27, 182, 1, 183, 172, 42, 27, 182, 1, 190, 172, 42, 27, 182, 1, 187, 172, 42, 27, 182, 1, 212, 172]
abbrev dktX7_man_2 : List UInt8 := dkwX7_man_2 ++ dktX7_man_3
def dkwX7_man_1 : List UInt8 := [170, 0, 0, 0, 75, 0, 0, 0, 0, 0, 0, 0, 4, 0, 0, 0, 33, 0, 0, 0, 39, 0, 0, 0, 45, 0, 0, 0, 51, 0, 0, 0, 57]
abbrev dktX7_man_1 : List UInt8 := dkwX7_man_1 ++ dktX7_man_2
def dkwX7_man_0 : List UInt8 := [42, 27, 182, 2, 87, 154, 0, 5, 2, 172, 28]
abbrev dktX7_man_0 : List UInt8 := dkwX7_man_0 ++ dktX7_man_1
theorem dksX7_man_0 : cX7_man.data.toList.drop 0 = dktX7_man_0 := by decide +kernel
theorem dksX7_man_1 : cX7_man.data.toList.drop 11 = dktX7_man_1 := dk_seg dksX7_man_0 11 rfl rfl
theorem dksX7_man_2 : cX7_man.data.toList.drop 44 = dktX7_man_2 := dk_seg dksX7_man_1 33 rfl rfl
theorem dksX7_man_3 : cX7_man.data.toList.drop 68 = dktX7_man_3 := dk_seg dksX7_man_2 24 rfl rfl
theorem dX7_man_0 : decode cX7_man 0 = .ok (.aload_n 0, 1) := dk_42 (dk_at dksX7_man_0 0 rfl rfl)
theorem dX7_man_1 : decode cX7_man 1 = .ok (.iload_n 1, 1) := dk_27 (dk_at dksX7_man_0 1 rfl rfl)
theorem dX7_man_2 : decode cX7_man 2 = .ok (.invokevirtual 599, 3) := dk_182 2 87 (dk_at dksX7_man_0 2 rfl rfl)
theorem dX7_man_5 : decode cX7_man 5 = .ok (.ifCond .ne 5, 3) := dk_154 0 5 (dk_at dksX7_man_0 5 rfl rfl)
theorem dX7_man_8 : decode cX7_man 8 = .ok (.iconst (-1), 1) := dk_2 (dk_at dksX7_man_0 8 rfl rfl)
theorem dX7_man_9 : decode cX7_man 9 = .ok (.ireturn, 1) := dk_172 (dk_at dksX7_man_0 9 rfl rfl)
theorem dX7_man_10 : decode cX7_man 10 = .ok (.iload_n 2, 1) := dk_28 (dk_at dksX7_man_0 10 rfl rfl)
theorem dX7_man_11 : decode cX7_man 11 = .ok (.tableswitch 75 0 4 #[33, 39, 45, 51, 57], 33) := by decide +kernel
theorem dX7_man_44 : decode cX7_man 44 = .ok (.aload_n 0, 1) := dk_42 (dk_at dksX7_man_2 0 rfl rfl)
theorem dX7_man_45 : decode cX7_man 45 = .ok (.iload_n 1, 1) := dk_27 (dk_at dksX7_man_2 1 rfl rfl)
theorem dX7_man_46 : decode cX7_man 46 = .ok (.invokevirtual 439, 3) := dk_182 1 183 (dk_at dksX7_man_2 2 rfl rfl)
theorem dX7_man_49 : decode cX7_man 49 = .ok (.ireturn, 1) := dk_172 (dk_at dksX7_man_2 5 rfl rfl)
theorem dX7_man_50 : decode cX7_man 50 = .ok (.aload_n 0, 1) := dk_42 (dk_at dksX7_man_2 6 rfl rfl)
theorem dX7_man_51 : decode cX7_man 51 = .ok (.iload_n 1, 1) := dk_27 (dk_at dksX7_man_2 7 rfl rfl)
theorem dX7_man_52 : decode cX7_man 52 = .ok (.invokevirtual 446, 3) := dk_182 1 190 (dk_at dksX7_man_2 8 rfl rfl)
theorem dX7_man_55 : decode cX7_man 55 = .ok (.ireturn, 1) := dk_172 (dk_at dksX7_man_2 11 rfl rfl)
theorem dX7_man_56 : decode cX7_man 56 = .ok (.aload_n 0, 1) := dk_42 (dk_at dksX7_man_2 12 rfl rfl)
theorem dX7_man_57 : decode cX7_man 57 = .ok (.iload_n 1, 1) := dk_27 (dk_at dksX7_man_2 13 rfl rfl)
theorem dX7_man_58 : decode cX7_man 58 = .ok (.invokevirtual 443, 3) := dk_182 1 187 (dk_at dksX7_man_2 14 rfl rfl)
theorem dX7_man_61 : decode cX7_man 61 = .ok (.ireturn, 1) := dk_172 (dk_at dksX7_man_2 17 rfl rfl)
theorem dX7_man_62 : decode cX7_man 62 = .ok (.aload_n 0, 1) := dk_42 (dk_at dksX7_man_2 18 rfl rfl)
theorem dX7_man_63 : decode cX7_man 63 = .ok (.iload_n 1, 1) := dk_27 (dk_at dksX7_man_2 19 rfl rfl)
theorem dX7_man_64 : decode cX7_man 64 = .ok (.invokevirtual 468, 3) := dk_182 1 212 (dk_at dksX7_man_2 20 rfl rfl)
theorem dX7_man_67 : decode cX7_man 67 = .ok (.ireturn, 1) := dk_172 (dk_at dksX7_man_2 23 rfl rfl)
theorem dX7_man_68 : decode cX7_man 68 = .ok (.aload_n 0, 1) := dk_42 (dk_at dksX7_man_3 0 rfl rfl)
theorem dX7_man_69 : decode cX7_man 69 = .ok (.iload_n 1, 1) := dk_27 (dk_at dksX7_man_3 1 rfl rfl)
theorem dX7_man_70 : decode cX7_man 70 = .ok (.invokevirtual 458, 3) := dk_182 1 202 (dk_at dksX7_man_3 2 rfl rfl)
theorem dX7_man_73 : decode cX7_man 73 = .ok (.ifCond .eq 7, 3) := dk_153 0 7 (dk_at dksX7_man_3 5 rfl rfl)
theorem dX7_man_76 : decode cX7_man 76 = .ok (.iconst 0, 1) := dk_3 (dk_at dksX7_man_3 8 rfl rfl)
theorem dX7_man_77 : decode cX7_man 77 = .ok (.goto 8, 3) := dk_167 0 8 (dk_at dksX7_man_3 9 rfl rfl)
theorem dX7_man_80 : decode cX7_man 80 = .ok (.aload_n 0, 1) := dk_42 (dk_at dksX7_man_3 12 rfl rfl)
theorem dX7_man_81 : decode cX7_man 81 = .ok (.iload_n 1, 1) := dk_27 (dk_at dksX7_man_3 13 rfl rfl)
theorem dX7_man_82 : decode cX7_man 82 = .ok (.invokevirtual 478, 3) := dk_182 1 222 (dk_at dksX7_man_3 14 rfl rfl)
theorem dX7_man_85 : decode cX7_man 85 = .ok (.ireturn, 1) := dk_172 (dk_at dksX7_man_3 17 rfl rfl)
theorem dX7_man_86 : decode cX7_man 86 = .ok (.iconst (-1), 1) := dk_2 (dk_at dksX7_man_3 18 rfl rfl)
theorem dX7_man_87 : decode cX7_man 87 = .ok (.ireturn, 1) := dk_172 (dk_at dksX7_man_3 19 rfl rfl)
abbrev cX7_isMan : ByteArray := prog_25_method_34_code
def yX7_isMan : MethodName := ⟨RX7, "isMan", "(I)Z"⟩
def dkwX7_isMan_0 : List UInt8 := [27, 133, 9, 42, 182, 1, 177, 4, 100, 133, 184, 1, 65, 172]
abbrev dktX7_isMan_0 : List UInt8 := dkwX7_isMan_0 ++ []
theorem dksX7_isMan_0 : cX7_isMan.data.toList.drop 0 = dktX7_isMan_0 := by decide +kernel
theorem dX7_isMan_0 : decode cX7_isMan 0 = .ok (.iload_n 1, 1) := dk_27 (dk_at dksX7_isMan_0 0 rfl rfl)
theorem dX7_isMan_1 : decode cX7_isMan 1 = .ok (.i2l, 1) := dk_133 (dk_at dksX7_isMan_0 1 rfl rfl)
theorem dX7_isMan_2 : decode cX7_isMan 2 = .ok (.lconst 0, 1) := dk_9 (dk_at dksX7_isMan_0 2 rfl rfl)
theorem dX7_isMan_3 : decode cX7_isMan 3 = .ok (.aload_n 0, 1) := dk_42 (dk_at dksX7_isMan_0 3 rfl rfl)
theorem dX7_isMan_4 : decode cX7_isMan 4 = .ok (.invokevirtual 433, 3) := dk_182 1 177 (dk_at dksX7_isMan_0 4 rfl rfl)
theorem dX7_isMan_7 : decode cX7_isMan 7 = .ok (.iconst 1, 1) := dk_4 (dk_at dksX7_isMan_0 7 rfl rfl)
theorem dX7_isMan_8 : decode cX7_isMan 8 = .ok (.isub, 1) := dk_100 (dk_at dksX7_isMan_0 8 rfl rfl)
theorem dX7_isMan_9 : decode cX7_isMan 9 = .ok (.i2l, 1) := dk_133 (dk_at dksX7_isMan_0 9 rfl rfl)
theorem dX7_isMan_10 : decode cX7_isMan 10 = .ok (.invokestatic 321, 3) := dk_184 1 65 (dk_at dksX7_isMan_0 10 rfl rfl)
theorem dX7_isMan_13 : decode cX7_isMan 13 = .ok (.ireturn, 1) := dk_172 (dk_at dksX7_isMan_0 13 rfl rfl)
abbrev cX7_field : ByteArray := prog_25_method_83_code
def yX7_field : MethodName := ⟨RX7, "field", "(II)I"⟩
def dkwX7_field_2 : List UInt8 := [96, 46, 167, 0, 4, 2, 172]
abbrev dktX7_field_2 : List UInt8 := dkwX7_field_2 ++ []
def dkwX7_field_1 : List UInt8 := [16, 18, 6, 27, 104, 96, 28, 96, 46, 167, 0, 21, 28, 5, 160, 0, 15, 42, 180, 0, 154, 16, 18, 27]
abbrev dktX7_field_1 : List UInt8 := dkwX7_field_1 ++ dktX7_field_2
def dkwX7_field_0 : List UInt8 := [42, 27, 182, 2, 90, 154, 0, 5, 2, 172, 28, 133, 9, 10, 184, 1, 65, 153, 0, 19, 42, 180, 0, 139]
abbrev dktX7_field_0 : List UInt8 := dkwX7_field_0 ++ dktX7_field_1
theorem dksX7_field_0 : cX7_field.data.toList.drop 0 = dktX7_field_0 := by decide +kernel
theorem dksX7_field_1 : cX7_field.data.toList.drop 24 = dktX7_field_1 := dk_seg dksX7_field_0 24 rfl rfl
theorem dksX7_field_2 : cX7_field.data.toList.drop 48 = dktX7_field_2 := dk_seg dksX7_field_1 24 rfl rfl
theorem dX7_field_0 : decode cX7_field 0 = .ok (.aload_n 0, 1) := dk_42 (dk_at dksX7_field_0 0 rfl rfl)
theorem dX7_field_1 : decode cX7_field 1 = .ok (.iload_n 1, 1) := dk_27 (dk_at dksX7_field_0 1 rfl rfl)
theorem dX7_field_2 : decode cX7_field 2 = .ok (.invokevirtual 602, 3) := dk_182 2 90 (dk_at dksX7_field_0 2 rfl rfl)
theorem dX7_field_5 : decode cX7_field 5 = .ok (.ifCond .ne 5, 3) := dk_154 0 5 (dk_at dksX7_field_0 5 rfl rfl)
theorem dX7_field_8 : decode cX7_field 8 = .ok (.iconst (-1), 1) := dk_2 (dk_at dksX7_field_0 8 rfl rfl)
theorem dX7_field_9 : decode cX7_field 9 = .ok (.ireturn, 1) := dk_172 (dk_at dksX7_field_0 9 rfl rfl)
theorem dX7_field_10 : decode cX7_field 10 = .ok (.iload_n 2, 1) := dk_28 (dk_at dksX7_field_0 10 rfl rfl)
theorem dX7_field_11 : decode cX7_field 11 = .ok (.i2l, 1) := dk_133 (dk_at dksX7_field_0 11 rfl rfl)
theorem dX7_field_12 : decode cX7_field 12 = .ok (.lconst 0, 1) := dk_9 (dk_at dksX7_field_0 12 rfl rfl)
theorem dX7_field_13 : decode cX7_field 13 = .ok (.lconst 1, 1) := dk_10 (dk_at dksX7_field_0 13 rfl rfl)
theorem dX7_field_14 : decode cX7_field 14 = .ok (.invokestatic 321, 3) := dk_184 1 65 (dk_at dksX7_field_0 14 rfl rfl)
theorem dX7_field_17 : decode cX7_field 17 = .ok (.ifCond .eq 19, 3) := dk_153 0 19 (dk_at dksX7_field_0 17 rfl rfl)
theorem dX7_field_20 : decode cX7_field 20 = .ok (.aload_n 0, 1) := dk_42 (dk_at dksX7_field_0 20 rfl rfl)
theorem dX7_field_21 : decode cX7_field 21 = .ok (.getfield 139, 3) := dk_180 0 139 (dk_at dksX7_field_0 21 rfl rfl)
theorem dX7_field_24 : decode cX7_field 24 = .ok (.bipush 18, 2) := dk_16 18 (dk_at dksX7_field_1 0 rfl rfl)
theorem dX7_field_26 : decode cX7_field 26 = .ok (.iconst 3, 1) := dk_6 (dk_at dksX7_field_1 2 rfl rfl)
theorem dX7_field_27 : decode cX7_field 27 = .ok (.iload_n 1, 1) := dk_27 (dk_at dksX7_field_1 3 rfl rfl)
theorem dX7_field_28 : decode cX7_field 28 = .ok (.imul, 1) := dk_104 (dk_at dksX7_field_1 4 rfl rfl)
theorem dX7_field_29 : decode cX7_field 29 = .ok (.iadd, 1) := dk_96 (dk_at dksX7_field_1 5 rfl rfl)
theorem dX7_field_30 : decode cX7_field 30 = .ok (.iload_n 2, 1) := dk_28 (dk_at dksX7_field_1 6 rfl rfl)
theorem dX7_field_31 : decode cX7_field 31 = .ok (.iadd, 1) := dk_96 (dk_at dksX7_field_1 7 rfl rfl)
theorem dX7_field_32 : decode cX7_field 32 = .ok (.iaload, 1) := dk_46 (dk_at dksX7_field_1 8 rfl rfl)
theorem dX7_field_33 : decode cX7_field 33 = .ok (.goto 21, 3) := dk_167 0 21 (dk_at dksX7_field_1 9 rfl rfl)
theorem dX7_field_36 : decode cX7_field 36 = .ok (.iload_n 2, 1) := dk_28 (dk_at dksX7_field_1 12 rfl rfl)
theorem dX7_field_37 : decode cX7_field 37 = .ok (.iconst 2, 1) := dk_5 (dk_at dksX7_field_1 13 rfl rfl)
theorem dX7_field_38 : decode cX7_field 38 = .ok (.if_icmp .ne 15, 3) := dk_160 0 15 (dk_at dksX7_field_1 14 rfl rfl)
theorem dX7_field_41 : decode cX7_field 41 = .ok (.aload_n 0, 1) := dk_42 (dk_at dksX7_field_1 17 rfl rfl)
theorem dX7_field_42 : decode cX7_field 42 = .ok (.getfield 154, 3) := dk_180 0 154 (dk_at dksX7_field_1 18 rfl rfl)
theorem dX7_field_45 : decode cX7_field 45 = .ok (.bipush 18, 2) := dk_16 18 (dk_at dksX7_field_1 21 rfl rfl)
theorem dX7_field_47 : decode cX7_field 47 = .ok (.iload_n 1, 1) := dk_27 (dk_at dksX7_field_1 23 rfl rfl)
theorem dX7_field_48 : decode cX7_field 48 = .ok (.iadd, 1) := dk_96 (dk_at dksX7_field_2 0 rfl rfl)
theorem dX7_field_49 : decode cX7_field 49 = .ok (.iaload, 1) := dk_46 (dk_at dksX7_field_2 1 rfl rfl)
theorem dX7_field_50 : decode cX7_field 50 = .ok (.goto 4, 3) := dk_167 0 4 (dk_at dksX7_field_2 2 rfl rfl)
theorem dX7_field_53 : decode cX7_field 53 = .ok (.iconst (-1), 1) := dk_2 (dk_at dksX7_field_2 5 rfl rfl)
theorem dX7_field_54 : decode cX7_field 54 = .ok (.ireturn, 1) := dk_172 (dk_at dksX7_field_2 6 rfl rfl)
abbrev cX7_isField : ByteArray := prog_25_method_35_code
def yX7_isField : MethodName := ⟨RX7, "isField", "(I)Z"⟩
def dkwX7_isField_0 : List UInt8 := [27, 133, 9, 42, 182, 1, 180, 4, 100, 133, 184, 1, 65, 172]
abbrev dktX7_isField_0 : List UInt8 := dkwX7_isField_0 ++ []
theorem dksX7_isField_0 : cX7_isField.data.toList.drop 0 = dktX7_isField_0 := by decide +kernel
theorem dX7_isField_0 : decode cX7_isField 0 = .ok (.iload_n 1, 1) := dk_27 (dk_at dksX7_isField_0 0 rfl rfl)
theorem dX7_isField_1 : decode cX7_isField 1 = .ok (.i2l, 1) := dk_133 (dk_at dksX7_isField_0 1 rfl rfl)
theorem dX7_isField_2 : decode cX7_isField 2 = .ok (.lconst 0, 1) := dk_9 (dk_at dksX7_isField_0 2 rfl rfl)
theorem dX7_isField_3 : decode cX7_isField 3 = .ok (.aload_n 0, 1) := dk_42 (dk_at dksX7_isField_0 3 rfl rfl)
theorem dX7_isField_4 : decode cX7_isField 4 = .ok (.invokevirtual 436, 3) := dk_182 1 180 (dk_at dksX7_isField_0 4 rfl rfl)
theorem dX7_isField_7 : decode cX7_isField 7 = .ok (.iconst 1, 1) := dk_4 (dk_at dksX7_isField_0 7 rfl rfl)
theorem dX7_isField_8 : decode cX7_isField 8 = .ok (.isub, 1) := dk_100 (dk_at dksX7_isField_0 8 rfl rfl)
theorem dX7_isField_9 : decode cX7_isField 9 = .ok (.i2l, 1) := dk_133 (dk_at dksX7_isField_0 9 rfl rfl)
theorem dX7_isField_10 : decode cX7_isField 10 = .ok (.invokestatic 321, 3) := dk_184 1 65 (dk_at dksX7_isField_0 10 rfl rfl)
theorem dX7_isField_13 : decode cX7_isField 13 = .ok (.ireturn, 1) := dk_172 (dk_at dksX7_isField_0 13 rfl rfl)
