set_option maxRecDepth 100000
theorem dX3_thinksOfSizes_23 : decode cX3_thinksOfSizes 23 = .ok (.iinc 1 1, 3) := dk_132 1 1 (dk_at dksX3_thinksOfSizes_1 0 rfl rfl)
theorem dX3_thinksOfSizes_26 : decode cX3_thinksOfSizes 26 = .ok (.goto (-24), 3) := dk_167 255 232 (dk_at dksX3_thinksOfSizes_1 3 rfl rfl)
theorem dX3_thinksOfSizes_29 : decode cX3_thinksOfSizes 29 = .ok (.return_, 1) := dk_177 (dk_at dksX3_thinksOfSizes_1 6 rfl rfl)
abbrev cX3_allGrow : ByteArray := prog_14_method_54_code
def yX3_allGrow : MethodName := ⟨RX3, "allGrow", "(II)V"⟩
def dkwX3_allGrow_4 : List UInt8 := [158, 0, 15, 42, 180, 0, 71, 29, 42, 180, 0, 74, 29, 46, 79, 132, 3, 1, 167, 255, 224, 177]
abbrev dktX3_allGrow_4 : List UInt8 := dkwX3_allGrow_4 ++ []
def dkwX3_allGrow_3 : List UInt8 := [132, 3, 1, 167, 255, 186, 3, 62, 29, 16, 64, 162, 0, 32, 42, 180, 0, 7, 3, 29, 96, 46]
abbrev dktX3_allGrow_3 : List UInt8 := dkwX3_allGrow_3 ++ dktX3_allGrow_4
def dkwX3_allGrow_2 : List UInt8 := [156, 0, 7, 3, 167, 0, 19, 21, 4, 17, 3, 231, 164, 0, 9, 17, 3, 231, 167, 0, 5, 21, 4, 79]
abbrev dktX3_allGrow_2 : List UInt8 := dkwX3_allGrow_2 ++ dktX3_allGrow_3
def dkwX3_allGrow_1 : List UInt8 := [180, 0, 71, 29, 46, 42, 29, 27, 28, 182, 1, 6, 96, 54, 4, 42, 180, 0, 74, 29, 21, 4]
abbrev dktX3_allGrow_1 : List UInt8 := dkwX3_allGrow_1 ++ dktX3_allGrow_2
def dkwX3_allGrow_0 : List UInt8 := [3, 62, 29, 16, 64, 162, 0, 70, 42, 180, 0, 7, 3, 29, 96, 46, 154, 0, 6, 167, 0, 50, 42]
abbrev dktX3_allGrow_0 : List UInt8 := dkwX3_allGrow_0 ++ dktX3_allGrow_1
theorem dksX3_allGrow_0 : cX3_allGrow.data.toList.drop 0 = dktX3_allGrow_0 := by decide +kernel
theorem dksX3_allGrow_1 : cX3_allGrow.data.toList.drop 23 = dktX3_allGrow_1 := dk_seg dksX3_allGrow_0 23 rfl rfl
theorem dksX3_allGrow_2 : cX3_allGrow.data.toList.drop 45 = dktX3_allGrow_2 := dk_seg dksX3_allGrow_1 22 rfl rfl
theorem dksX3_allGrow_3 : cX3_allGrow.data.toList.drop 69 = dktX3_allGrow_3 := dk_seg dksX3_allGrow_2 24 rfl rfl
theorem dksX3_allGrow_4 : cX3_allGrow.data.toList.drop 91 = dktX3_allGrow_4 := dk_seg dksX3_allGrow_3 22 rfl rfl
theorem dX3_allGrow_0 : decode cX3_allGrow 0 = .ok (.iconst 0, 1) := dk_3 (dk_at dksX3_allGrow_0 0 rfl rfl)
theorem dX3_allGrow_1 : decode cX3_allGrow 1 = .ok (.istore_n 3, 1) := dk_62 (dk_at dksX3_allGrow_0 1 rfl rfl)
theorem dX3_allGrow_2 : decode cX3_allGrow 2 = .ok (.iload_n 3, 1) := dk_29 (dk_at dksX3_allGrow_0 2 rfl rfl)
theorem dX3_allGrow_3 : decode cX3_allGrow 3 = .ok (.bipush 64, 2) := dk_16 64 (dk_at dksX3_allGrow_0 3 rfl rfl)
theorem dX3_allGrow_5 : decode cX3_allGrow 5 = .ok (.if_icmp .ge 70, 3) := dk_162 0 70 (dk_at dksX3_allGrow_0 5 rfl rfl)
theorem dX3_allGrow_8 : decode cX3_allGrow 8 = .ok (.aload_n 0, 1) := dk_42 (dk_at dksX3_allGrow_0 8 rfl rfl)
theorem dX3_allGrow_9 : decode cX3_allGrow 9 = .ok (.getfield 7, 3) := dk_180 0 7 (dk_at dksX3_allGrow_0 9 rfl rfl)
theorem dX3_allGrow_12 : decode cX3_allGrow 12 = .ok (.iconst 0, 1) := dk_3 (dk_at dksX3_allGrow_0 12 rfl rfl)
theorem dX3_allGrow_13 : decode cX3_allGrow 13 = .ok (.iload_n 3, 1) := dk_29 (dk_at dksX3_allGrow_0 13 rfl rfl)
theorem dX3_allGrow_14 : decode cX3_allGrow 14 = .ok (.iadd, 1) := dk_96 (dk_at dksX3_allGrow_0 14 rfl rfl)
theorem dX3_allGrow_15 : decode cX3_allGrow 15 = .ok (.iaload, 1) := dk_46 (dk_at dksX3_allGrow_0 15 rfl rfl)
theorem dX3_allGrow_16 : decode cX3_allGrow 16 = .ok (.ifCond .ne 6, 3) := dk_154 0 6 (dk_at dksX3_allGrow_0 16 rfl rfl)
theorem dX3_allGrow_19 : decode cX3_allGrow 19 = .ok (.goto 50, 3) := dk_167 0 50 (dk_at dksX3_allGrow_0 19 rfl rfl)
theorem dX3_allGrow_22 : decode cX3_allGrow 22 = .ok (.aload_n 0, 1) := dk_42 (dk_at dksX3_allGrow_0 22 rfl rfl)
theorem dX3_allGrow_23 : decode cX3_allGrow 23 = .ok (.getfield 71, 3) := dk_180 0 71 (dk_at dksX3_allGrow_1 0 rfl rfl)
theorem dX3_allGrow_26 : decode cX3_allGrow 26 = .ok (.iload_n 3, 1) := dk_29 (dk_at dksX3_allGrow_1 3 rfl rfl)
theorem dX3_allGrow_27 : decode cX3_allGrow 27 = .ok (.iaload, 1) := dk_46 (dk_at dksX3_allGrow_1 4 rfl rfl)
theorem dX3_allGrow_28 : decode cX3_allGrow 28 = .ok (.aload_n 0, 1) := dk_42 (dk_at dksX3_allGrow_1 5 rfl rfl)
theorem dX3_allGrow_29 : decode cX3_allGrow 29 = .ok (.iload_n 3, 1) := dk_29 (dk_at dksX3_allGrow_1 6 rfl rfl)
theorem dX3_allGrow_30 : decode cX3_allGrow 30 = .ok (.iload_n 1, 1) := dk_27 (dk_at dksX3_allGrow_1 7 rfl rfl)
theorem dX3_allGrow_31 : decode cX3_allGrow 31 = .ok (.iload_n 2, 1) := dk_28 (dk_at dksX3_allGrow_1 8 rfl rfl)
theorem dX3_allGrow_32 : decode cX3_allGrow 32 = .ok (.invokevirtual 262, 3) := dk_182 1 6 (dk_at dksX3_allGrow_1 9 rfl rfl)
theorem dX3_allGrow_35 : decode cX3_allGrow 35 = .ok (.iadd, 1) := dk_96 (dk_at dksX3_allGrow_1 12 rfl rfl)
theorem dX3_allGrow_36 : decode cX3_allGrow 36 = .ok (.istore 4, 2) := dk_54 4 (dk_at dksX3_allGrow_1 13 rfl rfl)
theorem dX3_allGrow_38 : decode cX3_allGrow 38 = .ok (.aload_n 0, 1) := dk_42 (dk_at dksX3_allGrow_1 15 rfl rfl)
theorem dX3_allGrow_39 : decode cX3_allGrow 39 = .ok (.getfield 74, 3) := dk_180 0 74 (dk_at dksX3_allGrow_1 16 rfl rfl)
theorem dX3_allGrow_42 : decode cX3_allGrow 42 = .ok (.iload_n 3, 1) := dk_29 (dk_at dksX3_allGrow_1 19 rfl rfl)
theorem dX3_allGrow_43 : decode cX3_allGrow 43 = .ok (.iload 4, 2) := dk_21 4 (dk_at dksX3_allGrow_1 20 rfl rfl)
theorem dX3_allGrow_45 : decode cX3_allGrow 45 = .ok (.ifCond .ge 7, 3) := dk_156 0 7 (dk_at dksX3_allGrow_2 0 rfl rfl)
theorem dX3_allGrow_48 : decode cX3_allGrow 48 = .ok (.iconst 0, 1) := dk_3 (dk_at dksX3_allGrow_2 3 rfl rfl)
theorem dX3_allGrow_49 : decode cX3_allGrow 49 = .ok (.goto 19, 3) := dk_167 0 19 (dk_at dksX3_allGrow_2 4 rfl rfl)
theorem dX3_allGrow_52 : decode cX3_allGrow 52 = .ok (.iload 4, 2) := dk_21 4 (dk_at dksX3_allGrow_2 7 rfl rfl)
theorem dX3_allGrow_54 : decode cX3_allGrow 54 = .ok (.sipush 999, 3) := dk_17 3 231 (dk_at dksX3_allGrow_2 9 rfl rfl)
theorem dX3_allGrow_57 : decode cX3_allGrow 57 = .ok (.if_icmp .le 9, 3) := dk_164 0 9 (dk_at dksX3_allGrow_2 12 rfl rfl)
theorem dX3_allGrow_60 : decode cX3_allGrow 60 = .ok (.sipush 999, 3) := dk_17 3 231 (dk_at dksX3_allGrow_2 15 rfl rfl)
theorem dX3_allGrow_63 : decode cX3_allGrow 63 = .ok (.goto 5, 3) := dk_167 0 5 (dk_at dksX3_allGrow_2 18 rfl rfl)
theorem dX3_allGrow_66 : decode cX3_allGrow 66 = .ok (.iload 4, 2) := dk_21 4 (dk_at dksX3_allGrow_2 21 rfl rfl)
theorem dX3_allGrow_68 : decode cX3_allGrow 68 = .ok (.iastore, 1) := dk_79 (dk_at dksX3_allGrow_2 23 rfl rfl)
theorem dX3_allGrow_69 : decode cX3_allGrow 69 = .ok (.iinc 3 1, 3) := dk_132 3 1 (dk_at dksX3_allGrow_3 0 rfl rfl)
theorem dX3_allGrow_72 : decode cX3_allGrow 72 = .ok (.goto (-70), 3) := dk_167 255 186 (dk_at dksX3_allGrow_3 3 rfl rfl)
theorem dX3_allGrow_75 : decode cX3_allGrow 75 = .ok (.iconst 0, 1) := dk_3 (dk_at dksX3_allGrow_3 6 rfl rfl)
theorem dX3_allGrow_76 : decode cX3_allGrow 76 = .ok (.istore_n 3, 1) := dk_62 (dk_at dksX3_allGrow_3 7 rfl rfl)
theorem dX3_allGrow_77 : decode cX3_allGrow 77 = .ok (.iload_n 3, 1) := dk_29 (dk_at dksX3_allGrow_3 8 rfl rfl)
theorem dX3_allGrow_78 : decode cX3_allGrow 78 = .ok (.bipush 64, 2) := dk_16 64 (dk_at dksX3_allGrow_3 9 rfl rfl)
theorem dX3_allGrow_80 : decode cX3_allGrow 80 = .ok (.if_icmp .ge 32, 3) := dk_162 0 32 (dk_at dksX3_allGrow_3 11 rfl rfl)
theorem dX3_allGrow_83 : decode cX3_allGrow 83 = .ok (.aload_n 0, 1) := dk_42 (dk_at dksX3_allGrow_3 14 rfl rfl)
theorem dX3_allGrow_84 : decode cX3_allGrow 84 = .ok (.getfield 7, 3) := dk_180 0 7 (dk_at dksX3_allGrow_3 15 rfl rfl)
theorem dX3_allGrow_87 : decode cX3_allGrow 87 = .ok (.iconst 0, 1) := dk_3 (dk_at dksX3_allGrow_3 18 rfl rfl)
theorem dX3_allGrow_88 : decode cX3_allGrow 88 = .ok (.iload_n 3, 1) := dk_29 (dk_at dksX3_allGrow_3 19 rfl rfl)
theorem dX3_allGrow_89 : decode cX3_allGrow 89 = .ok (.iadd, 1) := dk_96 (dk_at dksX3_allGrow_3 20 rfl rfl)
theorem dX3_allGrow_90 : decode cX3_allGrow 90 = .ok (.iaload, 1) := dk_46 (dk_at dksX3_allGrow_3 21 rfl rfl)
theorem dX3_allGrow_91 : decode cX3_allGrow 91 = .ok (.ifCond .le 15, 3) := dk_158 0 15 (dk_at dksX3_allGrow_4 0 rfl rfl)
theorem dX3_allGrow_94 : decode cX3_allGrow 94 = .ok (.aload_n 0, 1) := dk_42 (dk_at dksX3_allGrow_4 3 rfl rfl)
theorem dX3_allGrow_95 : decode cX3_allGrow 95 = .ok (.getfield 71, 3) := dk_180 0 71 (dk_at dksX3_allGrow_4 4 rfl rfl)
theorem dX3_allGrow_98 : decode cX3_allGrow 98 = .ok (.iload_n 3, 1) := dk_29 (dk_at dksX3_allGrow_4 7 rfl rfl)
theorem dX3_allGrow_99 : decode cX3_allGrow 99 = .ok (.aload_n 0, 1) := dk_42 (dk_at dksX3_allGrow_4 8 rfl rfl)
theorem dX3_allGrow_100 : decode cX3_allGrow 100 = .ok (.getfield 74, 3) := dk_180 0 74 (dk_at dksX3_allGrow_4 9 rfl rfl)
theorem dX3_allGrow_103 : decode cX3_allGrow 103 = .ok (.iload_n 3, 1) := dk_29 (dk_at dksX3_allGrow_4 12 rfl rfl)
theorem dX3_allGrow_104 : decode cX3_allGrow 104 = .ok (.iaload, 1) := dk_46 (dk_at dksX3_allGrow_4 13 rfl rfl)
theorem dX3_allGrow_105 : decode cX3_allGrow 105 = .ok (.iastore, 1) := dk_79 (dk_at dksX3_allGrow_4 14 rfl rfl)
theorem dX3_allGrow_106 : decode cX3_allGrow 106 = .ok (.iinc 3 1, 3) := dk_132 3 1 (dk_at dksX3_allGrow_4 15 rfl rfl)
theorem dX3_allGrow_109 : decode cX3_allGrow 109 = .ok (.goto (-32), 3) := dk_167 255 224 (dk_at dksX3_allGrow_4 18 rfl rfl)
theorem dX3_allGrow_112 : decode cX3_allGrow 112 = .ok (.return_, 1) := dk_177 (dk_at dksX3_allGrow_4 21 rfl rfl)
abbrev cX3_growsBy : ByteArray := prog_14_method_52_code
def yX3_growsBy : MethodName := ⟨RX3, "growsBy", "(III)I"⟩
def dkwX3_growsBy_9 : List UInt8 := [132, 5, 1, 167, 255, 185, 4, 172]
abbrev dktX3_growsBy_9 : List UInt8 := dkwX3_growsBy_9 ++ []
def dkwX3_growsBy_8 : List UInt8 := [162, 0, 8, 16, 157, 167, 0, 17, 21, 6, 16, 99, 164, 0, 8, 16, 99, 167, 0, 5, 21, 6, 172]
abbrev dktX3_growsBy_8 : List UInt8 := dkwX3_growsBy_8 ++ dktX3_growsBy_9
def dkwX3_growsBy_7 : List UInt8 := [42, 42, 180, 0, 47, 21, 5, 46, 42, 180, 0, 44, 21, 5, 46, 182, 0, 250, 54, 6, 21, 6, 16, 157]
abbrev dktX3_growsBy_7 : List UInt8 := dkwX3_growsBy_7 ++ dktX3_growsBy_8
def dkwX3_growsBy_6 : List UInt8 := [3, 54, 5, 21, 5, 42, 180, 0, 126, 162, 0, 68, 42, 21, 5, 182, 1, 3, 154, 0, 6, 167, 0, 50]
abbrev dktX3_growsBy_6 : List UInt8 := dkwX3_growsBy_6 ++ dktX3_growsBy_7
def dkwX3_growsBy_5 : List UInt8 := [27, 16, 8, 112, 79, 42, 180, 0, 65, 16, 7, 27, 16, 8, 108, 79, 42, 180, 0, 65, 16, 8, 29, 79]
abbrev dktX3_growsBy_5 : List UInt8 := dkwX3_growsBy_5 ++ dktX3_growsBy_6
def dkwX3_growsBy_4 : List UInt8 := [180, 0, 65, 8, 42, 27, 42, 180, 0, 7, 3, 27, 96, 46, 182, 1, 0, 79, 42, 180, 0, 65, 16, 6]
abbrev dktX3_growsBy_4 : List UInt8 := dkwX3_growsBy_4 ++ dktX3_growsBy_5
def dkwX3_growsBy_3 : List UInt8 := [156, 0, 7, 3, 167, 0, 5, 21, 4, 79, 42, 180, 0, 65, 7, 42, 27, 3, 182, 1, 0, 79, 42]
abbrev dktX3_growsBy_3 : List UInt8 := dkwX3_growsBy_3 ++ dktX3_growsBy_4
def dkwX3_growsBy_2 : List UInt8 := [180, 0, 123, 28, 96, 42, 180, 0, 7, 17, 0, 128, 27, 96, 46, 100, 79, 42, 180, 0, 65, 6, 21, 4]
abbrev dktX3_growsBy_2 : List UInt8 := dkwX3_growsBy_2 ++ dktX3_growsBy_3
def dkwX3_growsBy_1 : List UInt8 := [96, 46, 4, 100, 79, 42, 180, 0, 65, 4, 42, 180, 0, 71, 27, 46, 79, 42, 180, 0, 65, 5, 42]
abbrev dktX3_growsBy_1 : List UInt8 := dkwX3_growsBy_1 ++ dktX3_growsBy_2
def dkwX3_growsBy_0 : List UInt8 := [42, 180, 0, 23, 27, 46, 16, 10, 96, 28, 100, 54, 4, 42, 180, 0, 65, 3, 42, 180, 0, 7, 3, 27]
abbrev dktX3_growsBy_0 : List UInt8 := dkwX3_growsBy_0 ++ dktX3_growsBy_1
theorem dksX3_growsBy_0 : cX3_growsBy.data.toList.drop 0 = dktX3_growsBy_0 := by decide +kernel
theorem dksX3_growsBy_1 : cX3_growsBy.data.toList.drop 24 = dktX3_growsBy_1 := dk_seg dksX3_growsBy_0 24 rfl rfl
theorem dksX3_growsBy_2 : cX3_growsBy.data.toList.drop 47 = dktX3_growsBy_2 := dk_seg dksX3_growsBy_1 23 rfl rfl
theorem dksX3_growsBy_3 : cX3_growsBy.data.toList.drop 71 = dktX3_growsBy_3 := dk_seg dksX3_growsBy_2 24 rfl rfl
theorem dksX3_growsBy_4 : cX3_growsBy.data.toList.drop 94 = dktX3_growsBy_4 := dk_seg dksX3_growsBy_3 23 rfl rfl
theorem dksX3_growsBy_5 : cX3_growsBy.data.toList.drop 118 = dktX3_growsBy_5 := dk_seg dksX3_growsBy_4 24 rfl rfl
theorem dksX3_growsBy_6 : cX3_growsBy.data.toList.drop 142 = dktX3_growsBy_6 := dk_seg dksX3_growsBy_5 24 rfl rfl
theorem dksX3_growsBy_7 : cX3_growsBy.data.toList.drop 166 = dktX3_growsBy_7 := dk_seg dksX3_growsBy_6 24 rfl rfl
theorem dksX3_growsBy_8 : cX3_growsBy.data.toList.drop 190 = dktX3_growsBy_8 := dk_seg dksX3_growsBy_7 24 rfl rfl
theorem dksX3_growsBy_9 : cX3_growsBy.data.toList.drop 213 = dktX3_growsBy_9 := dk_seg dksX3_growsBy_8 23 rfl rfl
theorem dX3_growsBy_0 : decode cX3_growsBy 0 = .ok (.aload_n 0, 1) := dk_42 (dk_at dksX3_growsBy_0 0 rfl rfl)
theorem dX3_growsBy_1 : decode cX3_growsBy 1 = .ok (.getfield 23, 3) := dk_180 0 23 (dk_at dksX3_growsBy_0 1 rfl rfl)
theorem dX3_growsBy_4 : decode cX3_growsBy 4 = .ok (.iload_n 1, 1) := dk_27 (dk_at dksX3_growsBy_0 4 rfl rfl)
theorem dX3_growsBy_5 : decode cX3_growsBy 5 = .ok (.iaload, 1) := dk_46 (dk_at dksX3_growsBy_0 5 rfl rfl)
theorem dX3_growsBy_6 : decode cX3_growsBy 6 = .ok (.bipush 10, 2) := dk_16 10 (dk_at dksX3_growsBy_0 6 rfl rfl)
theorem dX3_growsBy_8 : decode cX3_growsBy 8 = .ok (.iadd, 1) := dk_96 (dk_at dksX3_growsBy_0 8 rfl rfl)
theorem dX3_growsBy_9 : decode cX3_growsBy 9 = .ok (.iload_n 2, 1) := dk_28 (dk_at dksX3_growsBy_0 9 rfl rfl)
theorem dX3_growsBy_10 : decode cX3_growsBy 10 = .ok (.isub, 1) := dk_100 (dk_at dksX3_growsBy_0 10 rfl rfl)
theorem dX3_growsBy_11 : decode cX3_growsBy 11 = .ok (.istore 4, 2) := dk_54 4 (dk_at dksX3_growsBy_0 11 rfl rfl)
theorem dX3_growsBy_13 : decode cX3_growsBy 13 = .ok (.aload_n 0, 1) := dk_42 (dk_at dksX3_growsBy_0 13 rfl rfl)
theorem dX3_growsBy_14 : decode cX3_growsBy 14 = .ok (.getfield 65, 3) := dk_180 0 65 (dk_at dksX3_growsBy_0 14 rfl rfl)
theorem dX3_growsBy_17 : decode cX3_growsBy 17 = .ok (.iconst 0, 1) := dk_3 (dk_at dksX3_growsBy_0 17 rfl rfl)
theorem dX3_growsBy_18 : decode cX3_growsBy 18 = .ok (.aload_n 0, 1) := dk_42 (dk_at dksX3_growsBy_0 18 rfl rfl)
theorem dX3_growsBy_19 : decode cX3_growsBy 19 = .ok (.getfield 7, 3) := dk_180 0 7 (dk_at dksX3_growsBy_0 19 rfl rfl)
theorem dX3_growsBy_22 : decode cX3_growsBy 22 = .ok (.iconst 0, 1) := dk_3 (dk_at dksX3_growsBy_0 22 rfl rfl)
theorem dX3_growsBy_23 : decode cX3_growsBy 23 = .ok (.iload_n 1, 1) := dk_27 (dk_at dksX3_growsBy_0 23 rfl rfl)
theorem dX3_growsBy_24 : decode cX3_growsBy 24 = .ok (.iadd, 1) := dk_96 (dk_at dksX3_growsBy_1 0 rfl rfl)
theorem dX3_growsBy_25 : decode cX3_growsBy 25 = .ok (.iaload, 1) := dk_46 (dk_at dksX3_growsBy_1 1 rfl rfl)
theorem dX3_growsBy_26 : decode cX3_growsBy 26 = .ok (.iconst 1, 1) := dk_4 (dk_at dksX3_growsBy_1 2 rfl rfl)
theorem dX3_growsBy_27 : decode cX3_growsBy 27 = .ok (.isub, 1) := dk_100 (dk_at dksX3_growsBy_1 3 rfl rfl)
theorem dX3_growsBy_28 : decode cX3_growsBy 28 = .ok (.iastore, 1) := dk_79 (dk_at dksX3_growsBy_1 4 rfl rfl)
theorem dX3_growsBy_29 : decode cX3_growsBy 29 = .ok (.aload_n 0, 1) := dk_42 (dk_at dksX3_growsBy_1 5 rfl rfl)
theorem dX3_growsBy_30 : decode cX3_growsBy 30 = .ok (.getfield 65, 3) := dk_180 0 65 (dk_at dksX3_growsBy_1 6 rfl rfl)
theorem dX3_growsBy_33 : decode cX3_growsBy 33 = .ok (.iconst 1, 1) := dk_4 (dk_at dksX3_growsBy_1 9 rfl rfl)
theorem dX3_growsBy_34 : decode cX3_growsBy 34 = .ok (.aload_n 0, 1) := dk_42 (dk_at dksX3_growsBy_1 10 rfl rfl)
theorem dX3_growsBy_35 : decode cX3_growsBy 35 = .ok (.getfield 71, 3) := dk_180 0 71 (dk_at dksX3_growsBy_1 11 rfl rfl)
theorem dX3_growsBy_38 : decode cX3_growsBy 38 = .ok (.iload_n 1, 1) := dk_27 (dk_at dksX3_growsBy_1 14 rfl rfl)
theorem dX3_growsBy_39 : decode cX3_growsBy 39 = .ok (.iaload, 1) := dk_46 (dk_at dksX3_growsBy_1 15 rfl rfl)
theorem dX3_growsBy_40 : decode cX3_growsBy 40 = .ok (.iastore, 1) := dk_79 (dk_at dksX3_growsBy_1 16 rfl rfl)
theorem dX3_growsBy_41 : decode cX3_growsBy 41 = .ok (.aload_n 0, 1) := dk_42 (dk_at dksX3_growsBy_1 17 rfl rfl)
theorem dX3_growsBy_42 : decode cX3_growsBy 42 = .ok (.getfield 65, 3) := dk_180 0 65 (dk_at dksX3_growsBy_1 18 rfl rfl)
theorem dX3_growsBy_45 : decode cX3_growsBy 45 = .ok (.iconst 2, 1) := dk_5 (dk_at dksX3_growsBy_1 21 rfl rfl)
theorem dX3_growsBy_46 : decode cX3_growsBy 46 = .ok (.aload_n 0, 1) := dk_42 (dk_at dksX3_growsBy_1 22 rfl rfl)
theorem dX3_growsBy_47 : decode cX3_growsBy 47 = .ok (.getfield 123, 3) := dk_180 0 123 (dk_at dksX3_growsBy_2 0 rfl rfl)
theorem dX3_growsBy_50 : decode cX3_growsBy 50 = .ok (.iload_n 2, 1) := dk_28 (dk_at dksX3_growsBy_2 3 rfl rfl)
theorem dX3_growsBy_51 : decode cX3_growsBy 51 = .ok (.iadd, 1) := dk_96 (dk_at dksX3_growsBy_2 4 rfl rfl)
theorem dX3_growsBy_52 : decode cX3_growsBy 52 = .ok (.aload_n 0, 1) := dk_42 (dk_at dksX3_growsBy_2 5 rfl rfl)
theorem dX3_growsBy_53 : decode cX3_growsBy 53 = .ok (.getfield 7, 3) := dk_180 0 7 (dk_at dksX3_growsBy_2 6 rfl rfl)
theorem dX3_growsBy_56 : decode cX3_growsBy 56 = .ok (.sipush 128, 3) := dk_17 0 128 (dk_at dksX3_growsBy_2 9 rfl rfl)
theorem dX3_growsBy_59 : decode cX3_growsBy 59 = .ok (.iload_n 1, 1) := dk_27 (dk_at dksX3_growsBy_2 12 rfl rfl)
theorem dX3_growsBy_60 : decode cX3_growsBy 60 = .ok (.iadd, 1) := dk_96 (dk_at dksX3_growsBy_2 13 rfl rfl)
theorem dX3_growsBy_61 : decode cX3_growsBy 61 = .ok (.iaload, 1) := dk_46 (dk_at dksX3_growsBy_2 14 rfl rfl)
theorem dX3_growsBy_62 : decode cX3_growsBy 62 = .ok (.isub, 1) := dk_100 (dk_at dksX3_growsBy_2 15 rfl rfl)
theorem dX3_growsBy_63 : decode cX3_growsBy 63 = .ok (.iastore, 1) := dk_79 (dk_at dksX3_growsBy_2 16 rfl rfl)
theorem dX3_growsBy_64 : decode cX3_growsBy 64 = .ok (.aload_n 0, 1) := dk_42 (dk_at dksX3_growsBy_2 17 rfl rfl)
theorem dX3_growsBy_65 : decode cX3_growsBy 65 = .ok (.getfield 65, 3) := dk_180 0 65 (dk_at dksX3_growsBy_2 18 rfl rfl)
theorem dX3_growsBy_68 : decode cX3_growsBy 68 = .ok (.iconst 3, 1) := dk_6 (dk_at dksX3_growsBy_2 21 rfl rfl)
theorem dX3_growsBy_69 : decode cX3_growsBy 69 = .ok (.iload 4, 2) := dk_21 4 (dk_at dksX3_growsBy_2 22 rfl rfl)
theorem dX3_growsBy_71 : decode cX3_growsBy 71 = .ok (.ifCond .ge 7, 3) := dk_156 0 7 (dk_at dksX3_growsBy_3 0 rfl rfl)
theorem dX3_growsBy_74 : decode cX3_growsBy 74 = .ok (.iconst 0, 1) := dk_3 (dk_at dksX3_growsBy_3 3 rfl rfl)
theorem dX3_growsBy_75 : decode cX3_growsBy 75 = .ok (.goto 5, 3) := dk_167 0 5 (dk_at dksX3_growsBy_3 4 rfl rfl)
theorem dX3_growsBy_78 : decode cX3_growsBy 78 = .ok (.iload 4, 2) := dk_21 4 (dk_at dksX3_growsBy_3 7 rfl rfl)
theorem dX3_growsBy_80 : decode cX3_growsBy 80 = .ok (.iastore, 1) := dk_79 (dk_at dksX3_growsBy_3 9 rfl rfl)
theorem dX3_growsBy_81 : decode cX3_growsBy 81 = .ok (.aload_n 0, 1) := dk_42 (dk_at dksX3_growsBy_3 10 rfl rfl)
theorem dX3_growsBy_82 : decode cX3_growsBy 82 = .ok (.getfield 65, 3) := dk_180 0 65 (dk_at dksX3_growsBy_3 11 rfl rfl)
theorem dX3_growsBy_85 : decode cX3_growsBy 85 = .ok (.iconst 4, 1) := dk_7 (dk_at dksX3_growsBy_3 14 rfl rfl)
theorem dX3_growsBy_86 : decode cX3_growsBy 86 = .ok (.aload_n 0, 1) := dk_42 (dk_at dksX3_growsBy_3 15 rfl rfl)
theorem dX3_growsBy_87 : decode cX3_growsBy 87 = .ok (.iload_n 1, 1) := dk_27 (dk_at dksX3_growsBy_3 16 rfl rfl)
theorem dX3_growsBy_88 : decode cX3_growsBy 88 = .ok (.iconst 0, 1) := dk_3 (dk_at dksX3_growsBy_3 17 rfl rfl)
theorem dX3_growsBy_89 : decode cX3_growsBy 89 = .ok (.invokevirtual 256, 3) := dk_182 1 0 (dk_at dksX3_growsBy_3 18 rfl rfl)
theorem dX3_growsBy_92 : decode cX3_growsBy 92 = .ok (.iastore, 1) := dk_79 (dk_at dksX3_growsBy_3 21 rfl rfl)
theorem dX3_growsBy_93 : decode cX3_growsBy 93 = .ok (.aload_n 0, 1) := dk_42 (dk_at dksX3_growsBy_3 22 rfl rfl)
theorem dX3_growsBy_94 : decode cX3_growsBy 94 = .ok (.getfield 65, 3) := dk_180 0 65 (dk_at dksX3_growsBy_4 0 rfl rfl)
theorem dX3_growsBy_97 : decode cX3_growsBy 97 = .ok (.iconst 5, 1) := dk_8 (dk_at dksX3_growsBy_4 3 rfl rfl)
theorem dX3_growsBy_98 : decode cX3_growsBy 98 = .ok (.aload_n 0, 1) := dk_42 (dk_at dksX3_growsBy_4 4 rfl rfl)
theorem dX3_growsBy_99 : decode cX3_growsBy 99 = .ok (.iload_n 1, 1) := dk_27 (dk_at dksX3_growsBy_4 5 rfl rfl)
theorem dX3_growsBy_100 : decode cX3_growsBy 100 = .ok (.aload_n 0, 1) := dk_42 (dk_at dksX3_growsBy_4 6 rfl rfl)
theorem dX3_growsBy_101 : decode cX3_growsBy 101 = .ok (.getfield 7, 3) := dk_180 0 7 (dk_at dksX3_growsBy_4 7 rfl rfl)
theorem dX3_growsBy_104 : decode cX3_growsBy 104 = .ok (.iconst 0, 1) := dk_3 (dk_at dksX3_growsBy_4 10 rfl rfl)
theorem dX3_growsBy_105 : decode cX3_growsBy 105 = .ok (.iload_n 1, 1) := dk_27 (dk_at dksX3_growsBy_4 11 rfl rfl)
theorem dX3_growsBy_106 : decode cX3_growsBy 106 = .ok (.iadd, 1) := dk_96 (dk_at dksX3_growsBy_4 12 rfl rfl)
theorem dX3_growsBy_107 : decode cX3_growsBy 107 = .ok (.iaload, 1) := dk_46 (dk_at dksX3_growsBy_4 13 rfl rfl)
theorem dX3_growsBy_108 : decode cX3_growsBy 108 = .ok (.invokevirtual 256, 3) := dk_182 1 0 (dk_at dksX3_growsBy_4 14 rfl rfl)
theorem dX3_growsBy_111 : decode cX3_growsBy 111 = .ok (.iastore, 1) := dk_79 (dk_at dksX3_growsBy_4 17 rfl rfl)
theorem dX3_growsBy_112 : decode cX3_growsBy 112 = .ok (.aload_n 0, 1) := dk_42 (dk_at dksX3_growsBy_4 18 rfl rfl)
theorem dX3_growsBy_113 : decode cX3_growsBy 113 = .ok (.getfield 65, 3) := dk_180 0 65 (dk_at dksX3_growsBy_4 19 rfl rfl)
theorem dX3_growsBy_116 : decode cX3_growsBy 116 = .ok (.bipush 6, 2) := dk_16 6 (dk_at dksX3_growsBy_4 22 rfl rfl)
theorem dX3_growsBy_118 : decode cX3_growsBy 118 = .ok (.iload_n 1, 1) := dk_27 (dk_at dksX3_growsBy_5 0 rfl rfl)
theorem dX3_growsBy_119 : decode cX3_growsBy 119 = .ok (.bipush 8, 2) := dk_16 8 (dk_at dksX3_growsBy_5 1 rfl rfl)
theorem dX3_growsBy_121 : decode cX3_growsBy 121 = .ok (.irem, 1) := dk_112 (dk_at dksX3_growsBy_5 3 rfl rfl)
theorem dX3_growsBy_122 : decode cX3_growsBy 122 = .ok (.iastore, 1) := dk_79 (dk_at dksX3_growsBy_5 4 rfl rfl)
theorem dX3_growsBy_123 : decode cX3_growsBy 123 = .ok (.aload_n 0, 1) := dk_42 (dk_at dksX3_growsBy_5 5 rfl rfl)
theorem dX3_growsBy_124 : decode cX3_growsBy 124 = .ok (.getfield 65, 3) := dk_180 0 65 (dk_at dksX3_growsBy_5 6 rfl rfl)
theorem dX3_growsBy_127 : decode cX3_growsBy 127 = .ok (.bipush 7, 2) := dk_16 7 (dk_at dksX3_growsBy_5 9 rfl rfl)
theorem dX3_growsBy_129 : decode cX3_growsBy 129 = .ok (.iload_n 1, 1) := dk_27 (dk_at dksX3_growsBy_5 11 rfl rfl)
theorem dX3_growsBy_130 : decode cX3_growsBy 130 = .ok (.bipush 8, 2) := dk_16 8 (dk_at dksX3_growsBy_5 12 rfl rfl)
theorem dX3_growsBy_132 : decode cX3_growsBy 132 = .ok (.idiv, 1) := dk_108 (dk_at dksX3_growsBy_5 14 rfl rfl)
theorem dX3_growsBy_133 : decode cX3_growsBy 133 = .ok (.iastore, 1) := dk_79 (dk_at dksX3_growsBy_5 15 rfl rfl)
theorem dX3_growsBy_134 : decode cX3_growsBy 134 = .ok (.aload_n 0, 1) := dk_42 (dk_at dksX3_growsBy_5 16 rfl rfl)
theorem dX3_growsBy_135 : decode cX3_growsBy 135 = .ok (.getfield 65, 3) := dk_180 0 65 (dk_at dksX3_growsBy_5 17 rfl rfl)
theorem dX3_growsBy_138 : decode cX3_growsBy 138 = .ok (.bipush 8, 2) := dk_16 8 (dk_at dksX3_growsBy_5 20 rfl rfl)
theorem dX3_growsBy_140 : decode cX3_growsBy 140 = .ok (.iload_n 3, 1) := dk_29 (dk_at dksX3_growsBy_5 22 rfl rfl)
theorem dX3_growsBy_141 : decode cX3_growsBy 141 = .ok (.iastore, 1) := dk_79 (dk_at dksX3_growsBy_5 23 rfl rfl)
theorem dX3_growsBy_142 : decode cX3_growsBy 142 = .ok (.iconst 0, 1) := dk_3 (dk_at dksX3_growsBy_6 0 rfl rfl)
theorem dX3_growsBy_143 : decode cX3_growsBy 143 = .ok (.istore 5, 2) := dk_54 5 (dk_at dksX3_growsBy_6 1 rfl rfl)
theorem dX3_growsBy_145 : decode cX3_growsBy 145 = .ok (.iload 5, 2) := dk_21 5 (dk_at dksX3_growsBy_6 3 rfl rfl)
theorem dX3_growsBy_147 : decode cX3_growsBy 147 = .ok (.aload_n 0, 1) := dk_42 (dk_at dksX3_growsBy_6 5 rfl rfl)
theorem dX3_growsBy_148 : decode cX3_growsBy 148 = .ok (.getfield 126, 3) := dk_180 0 126 (dk_at dksX3_growsBy_6 6 rfl rfl)
theorem dX3_growsBy_151 : decode cX3_growsBy 151 = .ok (.if_icmp .ge 68, 3) := dk_162 0 68 (dk_at dksX3_growsBy_6 9 rfl rfl)
theorem dX3_growsBy_154 : decode cX3_growsBy 154 = .ok (.aload_n 0, 1) := dk_42 (dk_at dksX3_growsBy_6 12 rfl rfl)
theorem dX3_growsBy_155 : decode cX3_growsBy 155 = .ok (.iload 5, 2) := dk_21 5 (dk_at dksX3_growsBy_6 13 rfl rfl)
theorem dX3_growsBy_157 : decode cX3_growsBy 157 = .ok (.invokevirtual 259, 3) := dk_182 1 3 (dk_at dksX3_growsBy_6 15 rfl rfl)
theorem dX3_growsBy_160 : decode cX3_growsBy 160 = .ok (.ifCond .ne 6, 3) := dk_154 0 6 (dk_at dksX3_growsBy_6 18 rfl rfl)
theorem dX3_growsBy_163 : decode cX3_growsBy 163 = .ok (.goto 50, 3) := dk_167 0 50 (dk_at dksX3_growsBy_6 21 rfl rfl)
theorem dX3_growsBy_166 : decode cX3_growsBy 166 = .ok (.aload_n 0, 1) := dk_42 (dk_at dksX3_growsBy_7 0 rfl rfl)
theorem dX3_growsBy_167 : decode cX3_growsBy 167 = .ok (.aload_n 0, 1) := dk_42 (dk_at dksX3_growsBy_7 1 rfl rfl)
theorem dX3_growsBy_168 : decode cX3_growsBy 168 = .ok (.getfield 47, 3) := dk_180 0 47 (dk_at dksX3_growsBy_7 2 rfl rfl)
theorem dX3_growsBy_171 : decode cX3_growsBy 171 = .ok (.iload 5, 2) := dk_21 5 (dk_at dksX3_growsBy_7 5 rfl rfl)
theorem dX3_growsBy_173 : decode cX3_growsBy 173 = .ok (.iaload, 1) := dk_46 (dk_at dksX3_growsBy_7 7 rfl rfl)
theorem dX3_growsBy_174 : decode cX3_growsBy 174 = .ok (.aload_n 0, 1) := dk_42 (dk_at dksX3_growsBy_7 8 rfl rfl)
theorem dX3_growsBy_175 : decode cX3_growsBy 175 = .ok (.getfield 44, 3) := dk_180 0 44 (dk_at dksX3_growsBy_7 9 rfl rfl)
theorem dX3_growsBy_178 : decode cX3_growsBy 178 = .ok (.iload 5, 2) := dk_21 5 (dk_at dksX3_growsBy_7 12 rfl rfl)
theorem dX3_growsBy_180 : decode cX3_growsBy 180 = .ok (.iaload, 1) := dk_46 (dk_at dksX3_growsBy_7 14 rfl rfl)
theorem dX3_growsBy_181 : decode cX3_growsBy 181 = .ok (.invokevirtual 250, 3) := dk_182 0 250 (dk_at dksX3_growsBy_7 15 rfl rfl)
theorem dX3_growsBy_184 : decode cX3_growsBy 184 = .ok (.istore 6, 2) := dk_54 6 (dk_at dksX3_growsBy_7 18 rfl rfl)
theorem dX3_growsBy_186 : decode cX3_growsBy 186 = .ok (.iload 6, 2) := dk_21 6 (dk_at dksX3_growsBy_7 20 rfl rfl)
theorem dX3_growsBy_188 : decode cX3_growsBy 188 = .ok (.bipush (-99), 2) := dk_16 157 (dk_at dksX3_growsBy_7 22 rfl rfl)
theorem dX3_growsBy_190 : decode cX3_growsBy 190 = .ok (.if_icmp .ge 8, 3) := dk_162 0 8 (dk_at dksX3_growsBy_8 0 rfl rfl)
theorem dX3_growsBy_193 : decode cX3_growsBy 193 = .ok (.bipush (-99), 2) := dk_16 157 (dk_at dksX3_growsBy_8 3 rfl rfl)
theorem dX3_growsBy_195 : decode cX3_growsBy 195 = .ok (.goto 17, 3) := dk_167 0 17 (dk_at dksX3_growsBy_8 5 rfl rfl)
theorem dX3_growsBy_198 : decode cX3_growsBy 198 = .ok (.iload 6, 2) := dk_21 6 (dk_at dksX3_growsBy_8 8 rfl rfl)
theorem dX3_growsBy_200 : decode cX3_growsBy 200 = .ok (.bipush 99, 2) := dk_16 99 (dk_at dksX3_growsBy_8 10 rfl rfl)
theorem dX3_growsBy_202 : decode cX3_growsBy 202 = .ok (.if_icmp .le 8, 3) := dk_164 0 8 (dk_at dksX3_growsBy_8 12 rfl rfl)
theorem dX3_growsBy_205 : decode cX3_growsBy 205 = .ok (.bipush 99, 2) := dk_16 99 (dk_at dksX3_growsBy_8 15 rfl rfl)
theorem dX3_growsBy_207 : decode cX3_growsBy 207 = .ok (.goto 5, 3) := dk_167 0 5 (dk_at dksX3_growsBy_8 17 rfl rfl)
theorem dX3_growsBy_210 : decode cX3_growsBy 210 = .ok (.iload 6, 2) := dk_21 6 (dk_at dksX3_growsBy_8 20 rfl rfl)
theorem dX3_growsBy_212 : decode cX3_growsBy 212 = .ok (.ireturn, 1) := dk_172 (dk_at dksX3_growsBy_8 22 rfl rfl)
theorem dX3_growsBy_213 : decode cX3_growsBy 213 = .ok (.iinc 5 1, 3) := dk_132 5 1 (dk_at dksX3_growsBy_9 0 rfl rfl)
theorem dX3_growsBy_216 : decode cX3_growsBy 216 = .ok (.goto (-71), 3) := dk_167 255 185 (dk_at dksX3_growsBy_9 3 rfl rfl)
theorem dX3_growsBy_219 : decode cX3_growsBy 219 = .ok (.iconst 1, 1) := dk_4 (dk_at dksX3_growsBy_9 6 rfl rfl)
theorem dX3_growsBy_220 : decode cX3_growsBy 220 = .ok (.ireturn, 1) := dk_172 (dk_at dksX3_growsBy_9 7 rfl rfl)
abbrev cX3_capsBeside : ByteArray := prog_14_method_51_code
def yX3_capsBeside : MethodName := ⟨RX3, "capsBeside", "(II)I"⟩
def dkwX3_capsBeside_2 : List UInt8 := [28, 160, 0, 7, 29, 4, 96, 62, 132, 4, 1, 167, 255, 202, 29, 172]
abbrev dktX3_capsBeside_2 : List UInt8 := dkwX3_capsBeside_2 ++ []
def dkwX3_capsBeside_1 : List UInt8 := [42, 21, 4, 27, 182, 0, 253, 4, 160, 0, 24, 28, 153, 0, 16, 42, 180, 0, 7, 3, 21, 4, 96, 46]
abbrev dktX3_capsBeside_1 : List UInt8 := dkwX3_capsBeside_1 ++ dktX3_capsBeside_2
def dkwX3_capsBeside_0 : List UInt8 := [3, 62, 3, 54, 4, 21, 4, 16, 64, 162, 0, 53, 42, 180, 0, 7, 3, 21, 4, 96, 46, 158, 0, 35]
abbrev dktX3_capsBeside_0 : List UInt8 := dkwX3_capsBeside_0 ++ dktX3_capsBeside_1
theorem dksX3_capsBeside_0 : cX3_capsBeside.data.toList.drop 0 = dktX3_capsBeside_0 := by decide +kernel
theorem dksX3_capsBeside_1 : cX3_capsBeside.data.toList.drop 24 = dktX3_capsBeside_1 := dk_seg dksX3_capsBeside_0 24 rfl rfl
theorem dksX3_capsBeside_2 : cX3_capsBeside.data.toList.drop 48 = dktX3_capsBeside_2 := dk_seg dksX3_capsBeside_1 24 rfl rfl
theorem dX3_capsBeside_0 : decode cX3_capsBeside 0 = .ok (.iconst 0, 1) := dk_3 (dk_at dksX3_capsBeside_0 0 rfl rfl)
theorem dX3_capsBeside_1 : decode cX3_capsBeside 1 = .ok (.istore_n 3, 1) := dk_62 (dk_at dksX3_capsBeside_0 1 rfl rfl)
theorem dX3_capsBeside_2 : decode cX3_capsBeside 2 = .ok (.iconst 0, 1) := dk_3 (dk_at dksX3_capsBeside_0 2 rfl rfl)
theorem dX3_capsBeside_3 : decode cX3_capsBeside 3 = .ok (.istore 4, 2) := dk_54 4 (dk_at dksX3_capsBeside_0 3 rfl rfl)
theorem dX3_capsBeside_5 : decode cX3_capsBeside 5 = .ok (.iload 4, 2) := dk_21 4 (dk_at dksX3_capsBeside_0 5 rfl rfl)
theorem dX3_capsBeside_7 : decode cX3_capsBeside 7 = .ok (.bipush 64, 2) := dk_16 64 (dk_at dksX3_capsBeside_0 7 rfl rfl)
theorem dX3_capsBeside_9 : decode cX3_capsBeside 9 = .ok (.if_icmp .ge 53, 3) := dk_162 0 53 (dk_at dksX3_capsBeside_0 9 rfl rfl)
theorem dX3_capsBeside_12 : decode cX3_capsBeside 12 = .ok (.aload_n 0, 1) := dk_42 (dk_at dksX3_capsBeside_0 12 rfl rfl)
theorem dX3_capsBeside_13 : decode cX3_capsBeside 13 = .ok (.getfield 7, 3) := dk_180 0 7 (dk_at dksX3_capsBeside_0 13 rfl rfl)
theorem dX3_capsBeside_16 : decode cX3_capsBeside 16 = .ok (.iconst 0, 1) := dk_3 (dk_at dksX3_capsBeside_0 16 rfl rfl)
theorem dX3_capsBeside_17 : decode cX3_capsBeside 17 = .ok (.iload 4, 2) := dk_21 4 (dk_at dksX3_capsBeside_0 17 rfl rfl)
theorem dX3_capsBeside_19 : decode cX3_capsBeside 19 = .ok (.iadd, 1) := dk_96 (dk_at dksX3_capsBeside_0 19 rfl rfl)
theorem dX3_capsBeside_20 : decode cX3_capsBeside 20 = .ok (.iaload, 1) := dk_46 (dk_at dksX3_capsBeside_0 20 rfl rfl)
theorem dX3_capsBeside_21 : decode cX3_capsBeside 21 = .ok (.ifCond .le 35, 3) := dk_158 0 35 (dk_at dksX3_capsBeside_0 21 rfl rfl)
theorem dX3_capsBeside_24 : decode cX3_capsBeside 24 = .ok (.aload_n 0, 1) := dk_42 (dk_at dksX3_capsBeside_1 0 rfl rfl)
theorem dX3_capsBeside_25 : decode cX3_capsBeside 25 = .ok (.iload 4, 2) := dk_21 4 (dk_at dksX3_capsBeside_1 1 rfl rfl)
theorem dX3_capsBeside_27 : decode cX3_capsBeside 27 = .ok (.iload_n 1, 1) := dk_27 (dk_at dksX3_capsBeside_1 3 rfl rfl)
theorem dX3_capsBeside_28 : decode cX3_capsBeside 28 = .ok (.invokevirtual 253, 3) := dk_182 0 253 (dk_at dksX3_capsBeside_1 4 rfl rfl)
theorem dX3_capsBeside_31 : decode cX3_capsBeside 31 = .ok (.iconst 1, 1) := dk_4 (dk_at dksX3_capsBeside_1 7 rfl rfl)
theorem dX3_capsBeside_32 : decode cX3_capsBeside 32 = .ok (.if_icmp .ne 24, 3) := dk_160 0 24 (dk_at dksX3_capsBeside_1 8 rfl rfl)
theorem dX3_capsBeside_35 : decode cX3_capsBeside 35 = .ok (.iload_n 2, 1) := dk_28 (dk_at dksX3_capsBeside_1 11 rfl rfl)
theorem dX3_capsBeside_36 : decode cX3_capsBeside 36 = .ok (.ifCond .eq 16, 3) := dk_153 0 16 (dk_at dksX3_capsBeside_1 12 rfl rfl)
theorem dX3_capsBeside_39 : decode cX3_capsBeside 39 = .ok (.aload_n 0, 1) := dk_42 (dk_at dksX3_capsBeside_1 15 rfl rfl)
theorem dX3_capsBeside_40 : decode cX3_capsBeside 40 = .ok (.getfield 7, 3) := dk_180 0 7 (dk_at dksX3_capsBeside_1 16 rfl rfl)
theorem dX3_capsBeside_43 : decode cX3_capsBeside 43 = .ok (.iconst 0, 1) := dk_3 (dk_at dksX3_capsBeside_1 19 rfl rfl)
theorem dX3_capsBeside_44 : decode cX3_capsBeside 44 = .ok (.iload 4, 2) := dk_21 4 (dk_at dksX3_capsBeside_1 20 rfl rfl)
theorem dX3_capsBeside_46 : decode cX3_capsBeside 46 = .ok (.iadd, 1) := dk_96 (dk_at dksX3_capsBeside_1 22 rfl rfl)
theorem dX3_capsBeside_47 : decode cX3_capsBeside 47 = .ok (.iaload, 1) := dk_46 (dk_at dksX3_capsBeside_1 23 rfl rfl)
theorem dX3_capsBeside_48 : decode cX3_capsBeside 48 = .ok (.iload_n 2, 1) := dk_28 (dk_at dksX3_capsBeside_2 0 rfl rfl)
theorem dX3_capsBeside_49 : decode cX3_capsBeside 49 = .ok (.if_icmp .ne 7, 3) := dk_160 0 7 (dk_at dksX3_capsBeside_2 1 rfl rfl)
theorem dX3_capsBeside_52 : decode cX3_capsBeside 52 = .ok (.iload_n 3, 1) := dk_29 (dk_at dksX3_capsBeside_2 4 rfl rfl)
theorem dX3_capsBeside_53 : decode cX3_capsBeside 53 = .ok (.iconst 1, 1) := dk_4 (dk_at dksX3_capsBeside_2 5 rfl rfl)
theorem dX3_capsBeside_54 : decode cX3_capsBeside 54 = .ok (.iadd, 1) := dk_96 (dk_at dksX3_capsBeside_2 6 rfl rfl)
theorem dX3_capsBeside_55 : decode cX3_capsBeside 55 = .ok (.istore_n 3, 1) := dk_62 (dk_at dksX3_capsBeside_2 7 rfl rfl)
theorem dX3_capsBeside_56 : decode cX3_capsBeside 56 = .ok (.iinc 4 1, 3) := dk_132 4 1 (dk_at dksX3_capsBeside_2 8 rfl rfl)
theorem dX3_capsBeside_59 : decode cX3_capsBeside 59 = .ok (.goto (-54), 3) := dk_167 255 202 (dk_at dksX3_capsBeside_2 11 rfl rfl)
theorem dX3_capsBeside_62 : decode cX3_capsBeside 62 = .ok (.iload_n 3, 1) := dk_29 (dk_at dksX3_capsBeside_2 14 rfl rfl)
theorem dX3_capsBeside_63 : decode cX3_capsBeside 63 = .ok (.ireturn, 1) := dk_172 (dk_at dksX3_capsBeside_2 15 rfl rfl)
abbrev cX3_farOf : ByteArray := prog_14_method_13_code
def yX3_farOf : MethodName := ⟨RX3, "farOf", "(II)I"⟩
def dkwX3_farOf_1 : List UInt8 := [182, 0, 103, 96, 172]
abbrev dktX3_farOf_1 : List UInt8 := dkwX3_farOf_1 ++ []
def dkwX3_farOf_0 : List UInt8 := [42, 27, 16, 8, 112, 28, 16, 8, 112, 100, 182, 0, 103, 42, 27, 16, 8, 108, 28, 16, 8, 108, 100]
abbrev dktX3_farOf_0 : List UInt8 := dkwX3_farOf_0 ++ dktX3_farOf_1
theorem dksX3_farOf_0 : cX3_farOf.data.toList.drop 0 = dktX3_farOf_0 := by decide +kernel
theorem dksX3_farOf_1 : cX3_farOf.data.toList.drop 23 = dktX3_farOf_1 := dk_seg dksX3_farOf_0 23 rfl rfl
theorem dX3_farOf_0 : decode cX3_farOf 0 = .ok (.aload_n 0, 1) := dk_42 (dk_at dksX3_farOf_0 0 rfl rfl)
theorem dX3_farOf_1 : decode cX3_farOf 1 = .ok (.iload_n 1, 1) := dk_27 (dk_at dksX3_farOf_0 1 rfl rfl)
theorem dX3_farOf_2 : decode cX3_farOf 2 = .ok (.bipush 8, 2) := dk_16 8 (dk_at dksX3_farOf_0 2 rfl rfl)
theorem dX3_farOf_4 : decode cX3_farOf 4 = .ok (.irem, 1) := dk_112 (dk_at dksX3_farOf_0 4 rfl rfl)
theorem dX3_farOf_5 : decode cX3_farOf 5 = .ok (.iload_n 2, 1) := dk_28 (dk_at dksX3_farOf_0 5 rfl rfl)
theorem dX3_farOf_6 : decode cX3_farOf 6 = .ok (.bipush 8, 2) := dk_16 8 (dk_at dksX3_farOf_0 6 rfl rfl)
theorem dX3_farOf_8 : decode cX3_farOf 8 = .ok (.irem, 1) := dk_112 (dk_at dksX3_farOf_0 8 rfl rfl)
theorem dX3_farOf_9 : decode cX3_farOf 9 = .ok (.isub, 1) := dk_100 (dk_at dksX3_farOf_0 9 rfl rfl)
theorem dX3_farOf_10 : decode cX3_farOf 10 = .ok (.invokevirtual 103, 3) := dk_182 0 103 (dk_at dksX3_farOf_0 10 rfl rfl)
theorem dX3_farOf_13 : decode cX3_farOf 13 = .ok (.aload_n 0, 1) := dk_42 (dk_at dksX3_farOf_0 13 rfl rfl)
theorem dX3_farOf_14 : decode cX3_farOf 14 = .ok (.iload_n 1, 1) := dk_27 (dk_at dksX3_farOf_0 14 rfl rfl)
theorem dX3_farOf_15 : decode cX3_farOf 15 = .ok (.bipush 8, 2) := dk_16 8 (dk_at dksX3_farOf_0 15 rfl rfl)
theorem dX3_farOf_17 : decode cX3_farOf 17 = .ok (.idiv, 1) := dk_108 (dk_at dksX3_farOf_0 17 rfl rfl)
theorem dX3_farOf_18 : decode cX3_farOf 18 = .ok (.iload_n 2, 1) := dk_28 (dk_at dksX3_farOf_0 18 rfl rfl)
theorem dX3_farOf_19 : decode cX3_farOf 19 = .ok (.bipush 8, 2) := dk_16 8 (dk_at dksX3_farOf_0 19 rfl rfl)
theorem dX3_farOf_21 : decode cX3_farOf 21 = .ok (.idiv, 1) := dk_108 (dk_at dksX3_farOf_0 21 rfl rfl)
theorem dX3_farOf_22 : decode cX3_farOf 22 = .ok (.isub, 1) := dk_100 (dk_at dksX3_farOf_0 22 rfl rfl)
theorem dX3_farOf_23 : decode cX3_farOf 23 = .ok (.invokevirtual 103, 3) := dk_182 0 103 (dk_at dksX3_farOf_1 0 rfl rfl)
theorem dX3_farOf_26 : decode cX3_farOf 26 = .ok (.iadd, 1) := dk_96 (dk_at dksX3_farOf_1 3 rfl rfl)
theorem dX3_farOf_27 : decode cX3_farOf 27 = .ok (.ireturn, 1) := dk_172 (dk_at dksX3_farOf_1 4 rfl rfl)
abbrev cX3_without : ByteArray := prog_14_method_5_code
def yX3_without : MethodName := ⟨RX3, "without", "(I)I"⟩
def dkwX3_without_0 : List UInt8 := [27, 156, 0, 8, 27, 116, 167, 0, 4, 27, 172]
abbrev dktX3_without_0 : List UInt8 := dkwX3_without_0 ++ []
theorem dksX3_without_0 : cX3_without.data.toList.drop 0 = dktX3_without_0 := by decide +kernel
theorem dX3_without_0 : decode cX3_without 0 = .ok (.iload_n 1, 1) := dk_27 (dk_at dksX3_without_0 0 rfl rfl)
theorem dX3_without_1 : decode cX3_without 1 = .ok (.ifCond .ge 8, 3) := dk_156 0 8 (dk_at dksX3_without_0 1 rfl rfl)
theorem dX3_without_4 : decode cX3_without 4 = .ok (.iload_n 1, 1) := dk_27 (dk_at dksX3_without_0 4 rfl rfl)
theorem dX3_without_5 : decode cX3_without 5 = .ok (.ineg, 1) := dk_116 (dk_at dksX3_without_0 5 rfl rfl)
theorem dX3_without_6 : decode cX3_without 6 = .ok (.goto 4, 3) := dk_167 0 4 (dk_at dksX3_without_0 6 rfl rfl)
theorem dX3_without_9 : decode cX3_without 9 = .ok (.iload_n 1, 1) := dk_27 (dk_at dksX3_without_0 9 rfl rfl)
theorem dX3_without_10 : decode cX3_without 10 = .ok (.ireturn, 1) := dk_172 (dk_at dksX3_without_0 10 rfl rfl)
abbrev cX3_isSo : ByteArray := prog_14_method_50_code
def yX3_isSo : MethodName := ⟨RX3, "isSo", "(I)Z"⟩
def dkwX3_isSo_1 : List UInt8 := [180, 0, 50, 27, 46, 182, 0, 250, 153, 0, 7, 4, 167, 0, 4, 3, 172]
abbrev dktX3_isSo_1 : List UInt8 := dkwX3_isSo_1 ++ []
def dkwX3_isSo_0 : List UInt8 := [42, 180, 0, 44, 27, 46, 42, 180, 0, 50, 27, 46, 159, 0, 22, 42, 42, 180, 0, 44, 27, 46, 42]
abbrev dktX3_isSo_0 : List UInt8 := dkwX3_isSo_0 ++ dktX3_isSo_1
theorem dksX3_isSo_0 : cX3_isSo.data.toList.drop 0 = dktX3_isSo_0 := by decide +kernel
theorem dksX3_isSo_1 : cX3_isSo.data.toList.drop 23 = dktX3_isSo_1 := dk_seg dksX3_isSo_0 23 rfl rfl
theorem dX3_isSo_0 : decode cX3_isSo 0 = .ok (.aload_n 0, 1) := dk_42 (dk_at dksX3_isSo_0 0 rfl rfl)
theorem dX3_isSo_1 : decode cX3_isSo 1 = .ok (.getfield 44, 3) := dk_180 0 44 (dk_at dksX3_isSo_0 1 rfl rfl)
theorem dX3_isSo_4 : decode cX3_isSo 4 = .ok (.iload_n 1, 1) := dk_27 (dk_at dksX3_isSo_0 4 rfl rfl)
theorem dX3_isSo_5 : decode cX3_isSo 5 = .ok (.iaload, 1) := dk_46 (dk_at dksX3_isSo_0 5 rfl rfl)
theorem dX3_isSo_6 : decode cX3_isSo 6 = .ok (.aload_n 0, 1) := dk_42 (dk_at dksX3_isSo_0 6 rfl rfl)
theorem dX3_isSo_7 : decode cX3_isSo 7 = .ok (.getfield 50, 3) := dk_180 0 50 (dk_at dksX3_isSo_0 7 rfl rfl)
theorem dX3_isSo_10 : decode cX3_isSo 10 = .ok (.iload_n 1, 1) := dk_27 (dk_at dksX3_isSo_0 10 rfl rfl)
theorem dX3_isSo_11 : decode cX3_isSo 11 = .ok (.iaload, 1) := dk_46 (dk_at dksX3_isSo_0 11 rfl rfl)
theorem dX3_isSo_12 : decode cX3_isSo 12 = .ok (.if_icmp .eq 22, 3) := dk_159 0 22 (dk_at dksX3_isSo_0 12 rfl rfl)
theorem dX3_isSo_15 : decode cX3_isSo 15 = .ok (.aload_n 0, 1) := dk_42 (dk_at dksX3_isSo_0 15 rfl rfl)
theorem dX3_isSo_16 : decode cX3_isSo 16 = .ok (.aload_n 0, 1) := dk_42 (dk_at dksX3_isSo_0 16 rfl rfl)
theorem dX3_isSo_17 : decode cX3_isSo 17 = .ok (.getfield 44, 3) := dk_180 0 44 (dk_at dksX3_isSo_0 17 rfl rfl)
theorem dX3_isSo_20 : decode cX3_isSo 20 = .ok (.iload_n 1, 1) := dk_27 (dk_at dksX3_isSo_0 20 rfl rfl)
theorem dX3_isSo_21 : decode cX3_isSo 21 = .ok (.iaload, 1) := dk_46 (dk_at dksX3_isSo_0 21 rfl rfl)
theorem dX3_isSo_22 : decode cX3_isSo 22 = .ok (.aload_n 0, 1) := dk_42 (dk_at dksX3_isSo_0 22 rfl rfl)
theorem dX3_isSo_23 : decode cX3_isSo 23 = .ok (.getfield 50, 3) := dk_180 0 50 (dk_at dksX3_isSo_1 0 rfl rfl)
theorem dX3_isSo_26 : decode cX3_isSo 26 = .ok (.iload_n 1, 1) := dk_27 (dk_at dksX3_isSo_1 3 rfl rfl)
theorem dX3_isSo_27 : decode cX3_isSo 27 = .ok (.iaload, 1) := dk_46 (dk_at dksX3_isSo_1 4 rfl rfl)
theorem dX3_isSo_28 : decode cX3_isSo 28 = .ok (.invokevirtual 250, 3) := dk_182 0 250 (dk_at dksX3_isSo_1 5 rfl rfl)
theorem dX3_isSo_31 : decode cX3_isSo 31 = .ok (.ifCond .eq 7, 3) := dk_153 0 7 (dk_at dksX3_isSo_1 8 rfl rfl)
theorem dX3_isSo_34 : decode cX3_isSo 34 = .ok (.iconst 1, 1) := dk_4 (dk_at dksX3_isSo_1 11 rfl rfl)
theorem dX3_isSo_35 : decode cX3_isSo 35 = .ok (.goto 4, 3) := dk_167 0 4 (dk_at dksX3_isSo_1 12 rfl rfl)
theorem dX3_isSo_38 : decode cX3_isSo 38 = .ok (.iconst 0, 1) := dk_3 (dk_at dksX3_isSo_1 15 rfl rfl)
theorem dX3_isSo_39 : decode cX3_isSo 39 = .ok (.ireturn, 1) := dk_172 (dk_at dksX3_isSo_1 16 rfl rfl)
abbrev cX3_runs : ByteArray := prog_14_method_49_code
def yX3_runs : MethodName := ⟨RX3, "runs", "(II)I"⟩
def dkwX3_runs_6 : List UInt8 := [180, 0, 68, 29, 46, 182, 0, 246, 79, 132, 4, 1, 167, 255, 111, 42, 180, 0, 68, 3, 46, 172]
abbrev dktX3_runs_6 : List UInt8 := dkwX3_runs_6 ++ []
def dkwX3_runs_5 : List UInt8 := [42, 180, 0, 68, 29, 4, 100, 42, 42, 180, 0, 53, 21, 4, 46, 42, 180, 0, 68, 29, 4, 100, 46, 42]
abbrev dktX3_runs_5 : List UInt8 := dkwX3_runs_5 ++ dktX3_runs_6
def dkwX3_runs_4 : List UInt8 := [180, 0, 68, 29, 4, 100, 4, 42, 180, 0, 68, 29, 4, 100, 46, 100, 79, 167, 0, 40, 29, 4, 100, 62]
abbrev dktX3_runs_4 : List UInt8 := dkwX3_runs_4 ++ dktX3_runs_5
def dkwX3_runs_3 : List UInt8 := [46, 79, 29, 4, 96, 62, 167, 0, 73, 42, 180, 0, 53, 21, 4, 46, 16, 9, 160, 0, 24, 42]
abbrev dktX3_runs_3 : List UInt8 := dkwX3_runs_3 ++ dktX3_runs_4
def dkwX3_runs_2 : List UInt8 := [154, 0, 13, 42, 180, 0, 56, 21, 4, 46, 167, 0, 15, 42, 180, 0, 65, 42, 180, 0, 56, 21, 4, 46]
abbrev dktX3_runs_2 : List UInt8 := dkwX3_runs_2 ++ dktX3_runs_3
def dkwX3_runs_1 : List UInt8 := [180, 0, 53, 21, 4, 46, 4, 160, 0, 48, 42, 180, 0, 68, 29, 42, 180, 0, 53, 21, 4, 46]
abbrev dktX3_runs_1 : List UInt8 := dkwX3_runs_1 ++ dktX3_runs_2
def dkwX3_runs_0 : List UInt8 := [3, 62, 27, 54, 4, 21, 4, 28, 162, 0, 145, 42, 180, 0, 53, 21, 4, 46, 153, 0, 14, 42]
abbrev dktX3_runs_0 : List UInt8 := dkwX3_runs_0 ++ dktX3_runs_1
theorem dksX3_runs_0 : cX3_runs.data.toList.drop 0 = dktX3_runs_0 := by decide +kernel
theorem dksX3_runs_1 : cX3_runs.data.toList.drop 22 = dktX3_runs_1 := dk_seg dksX3_runs_0 22 rfl rfl
theorem dksX3_runs_2 : cX3_runs.data.toList.drop 44 = dktX3_runs_2 := dk_seg dksX3_runs_1 22 rfl rfl
theorem dksX3_runs_3 : cX3_runs.data.toList.drop 68 = dktX3_runs_3 := dk_seg dksX3_runs_2 24 rfl rfl
theorem dksX3_runs_4 : cX3_runs.data.toList.drop 90 = dktX3_runs_4 := dk_seg dksX3_runs_3 22 rfl rfl
theorem dksX3_runs_5 : cX3_runs.data.toList.drop 114 = dktX3_runs_5 := dk_seg dksX3_runs_4 24 rfl rfl
theorem dksX3_runs_6 : cX3_runs.data.toList.drop 138 = dktX3_runs_6 := dk_seg dksX3_runs_5 24 rfl rfl
theorem dX3_runs_0 : decode cX3_runs 0 = .ok (.iconst 0, 1) := dk_3 (dk_at dksX3_runs_0 0 rfl rfl)
theorem dX3_runs_1 : decode cX3_runs 1 = .ok (.istore_n 3, 1) := dk_62 (dk_at dksX3_runs_0 1 rfl rfl)
theorem dX3_runs_2 : decode cX3_runs 2 = .ok (.iload_n 1, 1) := dk_27 (dk_at dksX3_runs_0 2 rfl rfl)
theorem dX3_runs_3 : decode cX3_runs 3 = .ok (.istore 4, 2) := dk_54 4 (dk_at dksX3_runs_0 3 rfl rfl)
theorem dX3_runs_5 : decode cX3_runs 5 = .ok (.iload 4, 2) := dk_21 4 (dk_at dksX3_runs_0 5 rfl rfl)
theorem dX3_runs_7 : decode cX3_runs 7 = .ok (.iload_n 2, 1) := dk_28 (dk_at dksX3_runs_0 7 rfl rfl)
theorem dX3_runs_8 : decode cX3_runs 8 = .ok (.if_icmp .ge 145, 3) := dk_162 0 145 (dk_at dksX3_runs_0 8 rfl rfl)
theorem dX3_runs_11 : decode cX3_runs 11 = .ok (.aload_n 0, 1) := dk_42 (dk_at dksX3_runs_0 11 rfl rfl)
theorem dX3_runs_12 : decode cX3_runs 12 = .ok (.getfield 53, 3) := dk_180 0 53 (dk_at dksX3_runs_0 12 rfl rfl)
theorem dX3_runs_15 : decode cX3_runs 15 = .ok (.iload 4, 2) := dk_21 4 (dk_at dksX3_runs_0 15 rfl rfl)
theorem dX3_runs_17 : decode cX3_runs 17 = .ok (.iaload, 1) := dk_46 (dk_at dksX3_runs_0 17 rfl rfl)
theorem dX3_runs_18 : decode cX3_runs 18 = .ok (.ifCond .eq 14, 3) := dk_153 0 14 (dk_at dksX3_runs_0 18 rfl rfl)
theorem dX3_runs_21 : decode cX3_runs 21 = .ok (.aload_n 0, 1) := dk_42 (dk_at dksX3_runs_0 21 rfl rfl)
theorem dX3_runs_22 : decode cX3_runs 22 = .ok (.getfield 53, 3) := dk_180 0 53 (dk_at dksX3_runs_1 0 rfl rfl)
theorem dX3_runs_25 : decode cX3_runs 25 = .ok (.iload 4, 2) := dk_21 4 (dk_at dksX3_runs_1 3 rfl rfl)
theorem dX3_runs_27 : decode cX3_runs 27 = .ok (.iaload, 1) := dk_46 (dk_at dksX3_runs_1 5 rfl rfl)
theorem dX3_runs_28 : decode cX3_runs 28 = .ok (.iconst 1, 1) := dk_4 (dk_at dksX3_runs_1 6 rfl rfl)
theorem dX3_runs_29 : decode cX3_runs 29 = .ok (.if_icmp .ne 48, 3) := dk_160 0 48 (dk_at dksX3_runs_1 7 rfl rfl)
theorem dX3_runs_32 : decode cX3_runs 32 = .ok (.aload_n 0, 1) := dk_42 (dk_at dksX3_runs_1 10 rfl rfl)
theorem dX3_runs_33 : decode cX3_runs 33 = .ok (.getfield 68, 3) := dk_180 0 68 (dk_at dksX3_runs_1 11 rfl rfl)
theorem dX3_runs_36 : decode cX3_runs 36 = .ok (.iload_n 3, 1) := dk_29 (dk_at dksX3_runs_1 14 rfl rfl)
theorem dX3_runs_37 : decode cX3_runs 37 = .ok (.aload_n 0, 1) := dk_42 (dk_at dksX3_runs_1 15 rfl rfl)
theorem dX3_runs_38 : decode cX3_runs 38 = .ok (.getfield 53, 3) := dk_180 0 53 (dk_at dksX3_runs_1 16 rfl rfl)
theorem dX3_runs_41 : decode cX3_runs 41 = .ok (.iload 4, 2) := dk_21 4 (dk_at dksX3_runs_1 19 rfl rfl)
theorem dX3_runs_43 : decode cX3_runs 43 = .ok (.iaload, 1) := dk_46 (dk_at dksX3_runs_1 21 rfl rfl)
theorem dX3_runs_44 : decode cX3_runs 44 = .ok (.ifCond .ne 13, 3) := dk_154 0 13 (dk_at dksX3_runs_2 0 rfl rfl)
theorem dX3_runs_47 : decode cX3_runs 47 = .ok (.aload_n 0, 1) := dk_42 (dk_at dksX3_runs_2 3 rfl rfl)
theorem dX3_runs_48 : decode cX3_runs 48 = .ok (.getfield 56, 3) := dk_180 0 56 (dk_at dksX3_runs_2 4 rfl rfl)
theorem dX3_runs_51 : decode cX3_runs 51 = .ok (.iload 4, 2) := dk_21 4 (dk_at dksX3_runs_2 7 rfl rfl)
theorem dX3_runs_53 : decode cX3_runs 53 = .ok (.iaload, 1) := dk_46 (dk_at dksX3_runs_2 9 rfl rfl)
theorem dX3_runs_54 : decode cX3_runs 54 = .ok (.goto 15, 3) := dk_167 0 15 (dk_at dksX3_runs_2 10 rfl rfl)
theorem dX3_runs_57 : decode cX3_runs 57 = .ok (.aload_n 0, 1) := dk_42 (dk_at dksX3_runs_2 13 rfl rfl)
theorem dX3_runs_58 : decode cX3_runs 58 = .ok (.getfield 65, 3) := dk_180 0 65 (dk_at dksX3_runs_2 14 rfl rfl)
theorem dX3_runs_61 : decode cX3_runs 61 = .ok (.aload_n 0, 1) := dk_42 (dk_at dksX3_runs_2 17 rfl rfl)
theorem dX3_runs_62 : decode cX3_runs 62 = .ok (.getfield 56, 3) := dk_180 0 56 (dk_at dksX3_runs_2 18 rfl rfl)
theorem dX3_runs_65 : decode cX3_runs 65 = .ok (.iload 4, 2) := dk_21 4 (dk_at dksX3_runs_2 21 rfl rfl)
theorem dX3_runs_67 : decode cX3_runs 67 = .ok (.iaload, 1) := dk_46 (dk_at dksX3_runs_2 23 rfl rfl)
theorem dX3_runs_68 : decode cX3_runs 68 = .ok (.iaload, 1) := dk_46 (dk_at dksX3_runs_3 0 rfl rfl)
theorem dX3_runs_69 : decode cX3_runs 69 = .ok (.iastore, 1) := dk_79 (dk_at dksX3_runs_3 1 rfl rfl)
theorem dX3_runs_70 : decode cX3_runs 70 = .ok (.iload_n 3, 1) := dk_29 (dk_at dksX3_runs_3 2 rfl rfl)
theorem dX3_runs_71 : decode cX3_runs 71 = .ok (.iconst 1, 1) := dk_4 (dk_at dksX3_runs_3 3 rfl rfl)
theorem dX3_runs_72 : decode cX3_runs 72 = .ok (.iadd, 1) := dk_96 (dk_at dksX3_runs_3 4 rfl rfl)
theorem dX3_runs_73 : decode cX3_runs 73 = .ok (.istore_n 3, 1) := dk_62 (dk_at dksX3_runs_3 5 rfl rfl)
theorem dX3_runs_74 : decode cX3_runs 74 = .ok (.goto 73, 3) := dk_167 0 73 (dk_at dksX3_runs_3 6 rfl rfl)
theorem dX3_runs_77 : decode cX3_runs 77 = .ok (.aload_n 0, 1) := dk_42 (dk_at dksX3_runs_3 9 rfl rfl)
theorem dX3_runs_78 : decode cX3_runs 78 = .ok (.getfield 53, 3) := dk_180 0 53 (dk_at dksX3_runs_3 10 rfl rfl)
theorem dX3_runs_81 : decode cX3_runs 81 = .ok (.iload 4, 2) := dk_21 4 (dk_at dksX3_runs_3 13 rfl rfl)
theorem dX3_runs_83 : decode cX3_runs 83 = .ok (.iaload, 1) := dk_46 (dk_at dksX3_runs_3 15 rfl rfl)
theorem dX3_runs_84 : decode cX3_runs 84 = .ok (.bipush 9, 2) := dk_16 9 (dk_at dksX3_runs_3 16 rfl rfl)
theorem dX3_runs_86 : decode cX3_runs 86 = .ok (.if_icmp .ne 24, 3) := dk_160 0 24 (dk_at dksX3_runs_3 18 rfl rfl)
theorem dX3_runs_89 : decode cX3_runs 89 = .ok (.aload_n 0, 1) := dk_42 (dk_at dksX3_runs_3 21 rfl rfl)
theorem dX3_runs_90 : decode cX3_runs 90 = .ok (.getfield 68, 3) := dk_180 0 68 (dk_at dksX3_runs_4 0 rfl rfl)
theorem dX3_runs_93 : decode cX3_runs 93 = .ok (.iload_n 3, 1) := dk_29 (dk_at dksX3_runs_4 3 rfl rfl)
theorem dX3_runs_94 : decode cX3_runs 94 = .ok (.iconst 1, 1) := dk_4 (dk_at dksX3_runs_4 4 rfl rfl)
theorem dX3_runs_95 : decode cX3_runs 95 = .ok (.isub, 1) := dk_100 (dk_at dksX3_runs_4 5 rfl rfl)
theorem dX3_runs_96 : decode cX3_runs 96 = .ok (.iconst 1, 1) := dk_4 (dk_at dksX3_runs_4 6 rfl rfl)
theorem dX3_runs_97 : decode cX3_runs 97 = .ok (.aload_n 0, 1) := dk_42 (dk_at dksX3_runs_4 7 rfl rfl)
theorem dX3_runs_98 : decode cX3_runs 98 = .ok (.getfield 68, 3) := dk_180 0 68 (dk_at dksX3_runs_4 8 rfl rfl)
theorem dX3_runs_101 : decode cX3_runs 101 = .ok (.iload_n 3, 1) := dk_29 (dk_at dksX3_runs_4 11 rfl rfl)
theorem dX3_runs_102 : decode cX3_runs 102 = .ok (.iconst 1, 1) := dk_4 (dk_at dksX3_runs_4 12 rfl rfl)
theorem dX3_runs_103 : decode cX3_runs 103 = .ok (.isub, 1) := dk_100 (dk_at dksX3_runs_4 13 rfl rfl)
theorem dX3_runs_104 : decode cX3_runs 104 = .ok (.iaload, 1) := dk_46 (dk_at dksX3_runs_4 14 rfl rfl)
theorem dX3_runs_105 : decode cX3_runs 105 = .ok (.isub, 1) := dk_100 (dk_at dksX3_runs_4 15 rfl rfl)
theorem dX3_runs_106 : decode cX3_runs 106 = .ok (.iastore, 1) := dk_79 (dk_at dksX3_runs_4 16 rfl rfl)
theorem dX3_runs_107 : decode cX3_runs 107 = .ok (.goto 40, 3) := dk_167 0 40 (dk_at dksX3_runs_4 17 rfl rfl)
theorem dX3_runs_110 : decode cX3_runs 110 = .ok (.iload_n 3, 1) := dk_29 (dk_at dksX3_runs_4 20 rfl rfl)
theorem dX3_runs_111 : decode cX3_runs 111 = .ok (.iconst 1, 1) := dk_4 (dk_at dksX3_runs_4 21 rfl rfl)
theorem dX3_runs_112 : decode cX3_runs 112 = .ok (.isub, 1) := dk_100 (dk_at dksX3_runs_4 22 rfl rfl)
theorem dX3_runs_113 : decode cX3_runs 113 = .ok (.istore_n 3, 1) := dk_62 (dk_at dksX3_runs_4 23 rfl rfl)
theorem dX3_runs_114 : decode cX3_runs 114 = .ok (.aload_n 0, 1) := dk_42 (dk_at dksX3_runs_5 0 rfl rfl)
theorem dX3_runs_115 : decode cX3_runs 115 = .ok (.getfield 68, 3) := dk_180 0 68 (dk_at dksX3_runs_5 1 rfl rfl)
theorem dX3_runs_118 : decode cX3_runs 118 = .ok (.iload_n 3, 1) := dk_29 (dk_at dksX3_runs_5 4 rfl rfl)
theorem dX3_runs_119 : decode cX3_runs 119 = .ok (.iconst 1, 1) := dk_4 (dk_at dksX3_runs_5 5 rfl rfl)
theorem dX3_runs_120 : decode cX3_runs 120 = .ok (.isub, 1) := dk_100 (dk_at dksX3_runs_5 6 rfl rfl)
theorem dX3_runs_121 : decode cX3_runs 121 = .ok (.aload_n 0, 1) := dk_42 (dk_at dksX3_runs_5 7 rfl rfl)
theorem dX3_runs_122 : decode cX3_runs 122 = .ok (.aload_n 0, 1) := dk_42 (dk_at dksX3_runs_5 8 rfl rfl)
theorem dX3_runs_123 : decode cX3_runs 123 = .ok (.getfield 53, 3) := dk_180 0 53 (dk_at dksX3_runs_5 9 rfl rfl)
theorem dX3_runs_126 : decode cX3_runs 126 = .ok (.iload 4, 2) := dk_21 4 (dk_at dksX3_runs_5 12 rfl rfl)
theorem dX3_runs_128 : decode cX3_runs 128 = .ok (.iaload, 1) := dk_46 (dk_at dksX3_runs_5 14 rfl rfl)
theorem dX3_runs_129 : decode cX3_runs 129 = .ok (.aload_n 0, 1) := dk_42 (dk_at dksX3_runs_5 15 rfl rfl)
theorem dX3_runs_130 : decode cX3_runs 130 = .ok (.getfield 68, 3) := dk_180 0 68 (dk_at dksX3_runs_5 16 rfl rfl)
theorem dX3_runs_133 : decode cX3_runs 133 = .ok (.iload_n 3, 1) := dk_29 (dk_at dksX3_runs_5 19 rfl rfl)
theorem dX3_runs_134 : decode cX3_runs 134 = .ok (.iconst 1, 1) := dk_4 (dk_at dksX3_runs_5 20 rfl rfl)
theorem dX3_runs_135 : decode cX3_runs 135 = .ok (.isub, 1) := dk_100 (dk_at dksX3_runs_5 21 rfl rfl)
theorem dX3_runs_136 : decode cX3_runs 136 = .ok (.iaload, 1) := dk_46 (dk_at dksX3_runs_5 22 rfl rfl)
theorem dX3_runs_137 : decode cX3_runs 137 = .ok (.aload_n 0, 1) := dk_42 (dk_at dksX3_runs_5 23 rfl rfl)
theorem dX3_runs_138 : decode cX3_runs 138 = .ok (.getfield 68, 3) := dk_180 0 68 (dk_at dksX3_runs_6 0 rfl rfl)
theorem dX3_runs_141 : decode cX3_runs 141 = .ok (.iload_n 3, 1) := dk_29 (dk_at dksX3_runs_6 3 rfl rfl)
theorem dX3_runs_142 : decode cX3_runs 142 = .ok (.iaload, 1) := dk_46 (dk_at dksX3_runs_6 4 rfl rfl)
theorem dX3_runs_143 : decode cX3_runs 143 = .ok (.invokevirtual 246, 3) := dk_182 0 246 (dk_at dksX3_runs_6 5 rfl rfl)
theorem dX3_runs_146 : decode cX3_runs 146 = .ok (.iastore, 1) := dk_79 (dk_at dksX3_runs_6 8 rfl rfl)
theorem dX3_runs_147 : decode cX3_runs 147 = .ok (.iinc 4 1, 3) := dk_132 4 1 (dk_at dksX3_runs_6 9 rfl rfl)
theorem dX3_runs_150 : decode cX3_runs 150 = .ok (.goto (-145), 3) := dk_167 255 111 (dk_at dksX3_runs_6 12 rfl rfl)
theorem dX3_runs_153 : decode cX3_runs 153 = .ok (.aload_n 0, 1) := dk_42 (dk_at dksX3_runs_6 15 rfl rfl)
theorem dX3_runs_154 : decode cX3_runs 154 = .ok (.getfield 68, 3) := dk_180 0 68 (dk_at dksX3_runs_6 16 rfl rfl)
theorem dX3_runs_157 : decode cX3_runs 157 = .ok (.iconst 0, 1) := dk_3 (dk_at dksX3_runs_6 19 rfl rfl)
theorem dX3_runs_158 : decode cX3_runs 158 = .ok (.iaload, 1) := dk_46 (dk_at dksX3_runs_6 20 rfl rfl)
theorem dX3_runs_159 : decode cX3_runs 159 = .ok (.ireturn, 1) := dk_172 (dk_at dksX3_runs_6 21 rfl rfl)
abbrev cX3_twoOf : ByteArray := prog_14_method_48_code
def yX3_twoOf : MethodName := ⟨RX3, "twoOf", "(III)I"⟩
def dkwX3_twoOf_4 : List UInt8 := [104, 167, 0, 14, 28, 29, 96, 158, 0, 7, 4, 167, 0, 4, 3, 172]
abbrev dktX3_twoOf_4 : List UInt8 := dkwX3_twoOf_4 ++ []
def dkwX3_twoOf_3 : List UInt8 := [16, 8, 160, 0, 14, 28, 29, 164, 0, 7, 4, 167, 0, 4, 3, 172, 27, 16, 10, 160, 0, 9, 28, 29]
abbrev dktX3_twoOf_3 : List UInt8 := dkwX3_twoOf_3 ++ dktX3_twoOf_4
def dkwX3_twoOf_2 : List UInt8 := [167, 0, 4, 3, 172, 27, 16, 7, 160, 0, 14, 28, 29, 160, 0, 7, 4, 167, 0, 4, 3, 172, 27]
abbrev dktX3_twoOf_2 : List UInt8 := dkwX3_twoOf_2 ++ dktX3_twoOf_3
def dkwX3_twoOf_1 : List UInt8 := [29, 104, 172, 27, 8, 160, 0, 7, 28, 29, 108, 172, 27, 16, 6, 160, 0, 14, 28, 29, 162, 0, 7, 4]
abbrev dktX3_twoOf_1 : List UInt8 := dkwX3_twoOf_1 ++ dktX3_twoOf_2
def dkwX3_twoOf_0 : List UInt8 := [27, 5, 160, 0, 7, 28, 29, 96, 172, 27, 6, 160, 0, 7, 28, 29, 100, 172, 27, 7, 160, 0, 7, 28]
abbrev dktX3_twoOf_0 : List UInt8 := dkwX3_twoOf_0 ++ dktX3_twoOf_1
theorem dksX3_twoOf_0 : cX3_twoOf.data.toList.drop 0 = dktX3_twoOf_0 := by decide +kernel
theorem dksX3_twoOf_1 : cX3_twoOf.data.toList.drop 24 = dktX3_twoOf_1 := dk_seg dksX3_twoOf_0 24 rfl rfl
theorem dksX3_twoOf_2 : cX3_twoOf.data.toList.drop 48 = dktX3_twoOf_2 := dk_seg dksX3_twoOf_1 24 rfl rfl
theorem dksX3_twoOf_3 : cX3_twoOf.data.toList.drop 71 = dktX3_twoOf_3 := dk_seg dksX3_twoOf_2 23 rfl rfl
theorem dksX3_twoOf_4 : cX3_twoOf.data.toList.drop 95 = dktX3_twoOf_4 := dk_seg dksX3_twoOf_3 24 rfl rfl
theorem dX3_twoOf_0 : decode cX3_twoOf 0 = .ok (.iload_n 1, 1) := dk_27 (dk_at dksX3_twoOf_0 0 rfl rfl)
theorem dX3_twoOf_1 : decode cX3_twoOf 1 = .ok (.iconst 2, 1) := dk_5 (dk_at dksX3_twoOf_0 1 rfl rfl)
theorem dX3_twoOf_2 : decode cX3_twoOf 2 = .ok (.if_icmp .ne 7, 3) := dk_160 0 7 (dk_at dksX3_twoOf_0 2 rfl rfl)
theorem dX3_twoOf_5 : decode cX3_twoOf 5 = .ok (.iload_n 2, 1) := dk_28 (dk_at dksX3_twoOf_0 5 rfl rfl)
theorem dX3_twoOf_6 : decode cX3_twoOf 6 = .ok (.iload_n 3, 1) := dk_29 (dk_at dksX3_twoOf_0 6 rfl rfl)
theorem dX3_twoOf_7 : decode cX3_twoOf 7 = .ok (.iadd, 1) := dk_96 (dk_at dksX3_twoOf_0 7 rfl rfl)
theorem dX3_twoOf_8 : decode cX3_twoOf 8 = .ok (.ireturn, 1) := dk_172 (dk_at dksX3_twoOf_0 8 rfl rfl)
theorem dX3_twoOf_9 : decode cX3_twoOf 9 = .ok (.iload_n 1, 1) := dk_27 (dk_at dksX3_twoOf_0 9 rfl rfl)
theorem dX3_twoOf_10 : decode cX3_twoOf 10 = .ok (.iconst 3, 1) := dk_6 (dk_at dksX3_twoOf_0 10 rfl rfl)
theorem dX3_twoOf_11 : decode cX3_twoOf 11 = .ok (.if_icmp .ne 7, 3) := dk_160 0 7 (dk_at dksX3_twoOf_0 11 rfl rfl)
theorem dX3_twoOf_14 : decode cX3_twoOf 14 = .ok (.iload_n 2, 1) := dk_28 (dk_at dksX3_twoOf_0 14 rfl rfl)
theorem dX3_twoOf_15 : decode cX3_twoOf 15 = .ok (.iload_n 3, 1) := dk_29 (dk_at dksX3_twoOf_0 15 rfl rfl)
theorem dX3_twoOf_16 : decode cX3_twoOf 16 = .ok (.isub, 1) := dk_100 (dk_at dksX3_twoOf_0 16 rfl rfl)
theorem dX3_twoOf_17 : decode cX3_twoOf 17 = .ok (.ireturn, 1) := dk_172 (dk_at dksX3_twoOf_0 17 rfl rfl)
theorem dX3_twoOf_18 : decode cX3_twoOf 18 = .ok (.iload_n 1, 1) := dk_27 (dk_at dksX3_twoOf_0 18 rfl rfl)
theorem dX3_twoOf_19 : decode cX3_twoOf 19 = .ok (.iconst 4, 1) := dk_7 (dk_at dksX3_twoOf_0 19 rfl rfl)
theorem dX3_twoOf_20 : decode cX3_twoOf 20 = .ok (.if_icmp .ne 7, 3) := dk_160 0 7 (dk_at dksX3_twoOf_0 20 rfl rfl)
theorem dX3_twoOf_23 : decode cX3_twoOf 23 = .ok (.iload_n 2, 1) := dk_28 (dk_at dksX3_twoOf_0 23 rfl rfl)
theorem dX3_twoOf_24 : decode cX3_twoOf 24 = .ok (.iload_n 3, 1) := dk_29 (dk_at dksX3_twoOf_1 0 rfl rfl)
theorem dX3_twoOf_25 : decode cX3_twoOf 25 = .ok (.imul, 1) := dk_104 (dk_at dksX3_twoOf_1 1 rfl rfl)
theorem dX3_twoOf_26 : decode cX3_twoOf 26 = .ok (.ireturn, 1) := dk_172 (dk_at dksX3_twoOf_1 2 rfl rfl)
theorem dX3_twoOf_27 : decode cX3_twoOf 27 = .ok (.iload_n 1, 1) := dk_27 (dk_at dksX3_twoOf_1 3 rfl rfl)
theorem dX3_twoOf_28 : decode cX3_twoOf 28 = .ok (.iconst 5, 1) := dk_8 (dk_at dksX3_twoOf_1 4 rfl rfl)
theorem dX3_twoOf_29 : decode cX3_twoOf 29 = .ok (.if_icmp .ne 7, 3) := dk_160 0 7 (dk_at dksX3_twoOf_1 5 rfl rfl)
theorem dX3_twoOf_32 : decode cX3_twoOf 32 = .ok (.iload_n 2, 1) := dk_28 (dk_at dksX3_twoOf_1 8 rfl rfl)
theorem dX3_twoOf_33 : decode cX3_twoOf 33 = .ok (.iload_n 3, 1) := dk_29 (dk_at dksX3_twoOf_1 9 rfl rfl)
theorem dX3_twoOf_34 : decode cX3_twoOf 34 = .ok (.idiv, 1) := dk_108 (dk_at dksX3_twoOf_1 10 rfl rfl)
theorem dX3_twoOf_35 : decode cX3_twoOf 35 = .ok (.ireturn, 1) := dk_172 (dk_at dksX3_twoOf_1 11 rfl rfl)
theorem dX3_twoOf_36 : decode cX3_twoOf 36 = .ok (.iload_n 1, 1) := dk_27 (dk_at dksX3_twoOf_1 12 rfl rfl)
theorem dX3_twoOf_37 : decode cX3_twoOf 37 = .ok (.bipush 6, 2) := dk_16 6 (dk_at dksX3_twoOf_1 13 rfl rfl)
theorem dX3_twoOf_39 : decode cX3_twoOf 39 = .ok (.if_icmp .ne 14, 3) := dk_160 0 14 (dk_at dksX3_twoOf_1 15 rfl rfl)
theorem dX3_twoOf_42 : decode cX3_twoOf 42 = .ok (.iload_n 2, 1) := dk_28 (dk_at dksX3_twoOf_1 18 rfl rfl)
theorem dX3_twoOf_43 : decode cX3_twoOf 43 = .ok (.iload_n 3, 1) := dk_29 (dk_at dksX3_twoOf_1 19 rfl rfl)
theorem dX3_twoOf_44 : decode cX3_twoOf 44 = .ok (.if_icmp .ge 7, 3) := dk_162 0 7 (dk_at dksX3_twoOf_1 20 rfl rfl)
theorem dX3_twoOf_47 : decode cX3_twoOf 47 = .ok (.iconst 1, 1) := dk_4 (dk_at dksX3_twoOf_1 23 rfl rfl)
theorem dX3_twoOf_48 : decode cX3_twoOf 48 = .ok (.goto 4, 3) := dk_167 0 4 (dk_at dksX3_twoOf_2 0 rfl rfl)
theorem dX3_twoOf_51 : decode cX3_twoOf 51 = .ok (.iconst 0, 1) := dk_3 (dk_at dksX3_twoOf_2 3 rfl rfl)
theorem dX3_twoOf_52 : decode cX3_twoOf 52 = .ok (.ireturn, 1) := dk_172 (dk_at dksX3_twoOf_2 4 rfl rfl)
theorem dX3_twoOf_53 : decode cX3_twoOf 53 = .ok (.iload_n 1, 1) := dk_27 (dk_at dksX3_twoOf_2 5 rfl rfl)
theorem dX3_twoOf_54 : decode cX3_twoOf 54 = .ok (.bipush 7, 2) := dk_16 7 (dk_at dksX3_twoOf_2 6 rfl rfl)
theorem dX3_twoOf_56 : decode cX3_twoOf 56 = .ok (.if_icmp .ne 14, 3) := dk_160 0 14 (dk_at dksX3_twoOf_2 8 rfl rfl)
theorem dX3_twoOf_59 : decode cX3_twoOf 59 = .ok (.iload_n 2, 1) := dk_28 (dk_at dksX3_twoOf_2 11 rfl rfl)
theorem dX3_twoOf_60 : decode cX3_twoOf 60 = .ok (.iload_n 3, 1) := dk_29 (dk_at dksX3_twoOf_2 12 rfl rfl)
theorem dX3_twoOf_61 : decode cX3_twoOf 61 = .ok (.if_icmp .ne 7, 3) := dk_160 0 7 (dk_at dksX3_twoOf_2 13 rfl rfl)
theorem dX3_twoOf_64 : decode cX3_twoOf 64 = .ok (.iconst 1, 1) := dk_4 (dk_at dksX3_twoOf_2 16 rfl rfl)
theorem dX3_twoOf_65 : decode cX3_twoOf 65 = .ok (.goto 4, 3) := dk_167 0 4 (dk_at dksX3_twoOf_2 17 rfl rfl)
theorem dX3_twoOf_68 : decode cX3_twoOf 68 = .ok (.iconst 0, 1) := dk_3 (dk_at dksX3_twoOf_2 20 rfl rfl)
theorem dX3_twoOf_69 : decode cX3_twoOf 69 = .ok (.ireturn, 1) := dk_172 (dk_at dksX3_twoOf_2 21 rfl rfl)
theorem dX3_twoOf_70 : decode cX3_twoOf 70 = .ok (.iload_n 1, 1) := dk_27 (dk_at dksX3_twoOf_2 22 rfl rfl)
theorem dX3_twoOf_71 : decode cX3_twoOf 71 = .ok (.bipush 8, 2) := dk_16 8 (dk_at dksX3_twoOf_3 0 rfl rfl)
theorem dX3_twoOf_73 : decode cX3_twoOf 73 = .ok (.if_icmp .ne 14, 3) := dk_160 0 14 (dk_at dksX3_twoOf_3 2 rfl rfl)
theorem dX3_twoOf_76 : decode cX3_twoOf 76 = .ok (.iload_n 2, 1) := dk_28 (dk_at dksX3_twoOf_3 5 rfl rfl)
theorem dX3_twoOf_77 : decode cX3_twoOf 77 = .ok (.iload_n 3, 1) := dk_29 (dk_at dksX3_twoOf_3 6 rfl rfl)
theorem dX3_twoOf_78 : decode cX3_twoOf 78 = .ok (.if_icmp .le 7, 3) := dk_164 0 7 (dk_at dksX3_twoOf_3 7 rfl rfl)
theorem dX3_twoOf_81 : decode cX3_twoOf 81 = .ok (.iconst 1, 1) := dk_4 (dk_at dksX3_twoOf_3 10 rfl rfl)
theorem dX3_twoOf_82 : decode cX3_twoOf 82 = .ok (.goto 4, 3) := dk_167 0 4 (dk_at dksX3_twoOf_3 11 rfl rfl)
theorem dX3_twoOf_85 : decode cX3_twoOf 85 = .ok (.iconst 0, 1) := dk_3 (dk_at dksX3_twoOf_3 14 rfl rfl)
theorem dX3_twoOf_86 : decode cX3_twoOf 86 = .ok (.ireturn, 1) := dk_172 (dk_at dksX3_twoOf_3 15 rfl rfl)
theorem dX3_twoOf_87 : decode cX3_twoOf 87 = .ok (.iload_n 1, 1) := dk_27 (dk_at dksX3_twoOf_3 16 rfl rfl)
theorem dX3_twoOf_88 : decode cX3_twoOf 88 = .ok (.bipush 10, 2) := dk_16 10 (dk_at dksX3_twoOf_3 17 rfl rfl)
theorem dX3_twoOf_90 : decode cX3_twoOf 90 = .ok (.if_icmp .ne 9, 3) := dk_160 0 9 (dk_at dksX3_twoOf_3 19 rfl rfl)
theorem dX3_twoOf_93 : decode cX3_twoOf 93 = .ok (.iload_n 2, 1) := dk_28 (dk_at dksX3_twoOf_3 22 rfl rfl)
theorem dX3_twoOf_94 : decode cX3_twoOf 94 = .ok (.iload_n 3, 1) := dk_29 (dk_at dksX3_twoOf_3 23 rfl rfl)
theorem dX3_twoOf_95 : decode cX3_twoOf 95 = .ok (.imul, 1) := dk_104 (dk_at dksX3_twoOf_4 0 rfl rfl)
theorem dX3_twoOf_96 : decode cX3_twoOf 96 = .ok (.goto 14, 3) := dk_167 0 14 (dk_at dksX3_twoOf_4 1 rfl rfl)
theorem dX3_twoOf_99 : decode cX3_twoOf 99 = .ok (.iload_n 2, 1) := dk_28 (dk_at dksX3_twoOf_4 4 rfl rfl)
theorem dX3_twoOf_100 : decode cX3_twoOf 100 = .ok (.iload_n 3, 1) := dk_29 (dk_at dksX3_twoOf_4 5 rfl rfl)
theorem dX3_twoOf_101 : decode cX3_twoOf 101 = .ok (.iadd, 1) := dk_96 (dk_at dksX3_twoOf_4 6 rfl rfl)
theorem dX3_twoOf_102 : decode cX3_twoOf 102 = .ok (.ifCond .le 7, 3) := dk_158 0 7 (dk_at dksX3_twoOf_4 7 rfl rfl)
theorem dX3_twoOf_105 : decode cX3_twoOf 105 = .ok (.iconst 1, 1) := dk_4 (dk_at dksX3_twoOf_4 10 rfl rfl)
theorem dX3_twoOf_106 : decode cX3_twoOf 106 = .ok (.goto 4, 3) := dk_167 0 4 (dk_at dksX3_twoOf_4 11 rfl rfl)
theorem dX3_twoOf_109 : decode cX3_twoOf 109 = .ok (.iconst 0, 1) := dk_3 (dk_at dksX3_twoOf_4 14 rfl rfl)
theorem dX3_twoOf_110 : decode cX3_twoOf 110 = .ok (.ireturn, 1) := dk_172 (dk_at dksX3_twoOf_4 15 rfl rfl)
abbrev cX3_isEaten : ByteArray := prog_14_method_56_code
def yX3_isEaten : MethodName := ⟨RX3, "isEaten", "()Z"⟩
def dkwX3_isEaten_3 : List UInt8 := [96, 62, 167, 255, 222, 42, 180, 0, 7, 3, 29, 96, 3, 79, 4, 172]
abbrev dktX3_isEaten_3 : List UInt8 := dkwX3_isEaten_3 ++ []
def dkwX3_isEaten_2 : List UInt8 := [153, 0, 7, 28, 158, 0, 25, 42, 180, 0, 7, 3, 29, 96, 46, 158, 0, 7, 28, 4, 100, 61, 29, 4]
abbrev dktX3_isEaten_2 : List UInt8 := dkwX3_isEaten_2 ++ dktX3_isEaten_3
def dkwX3_isEaten_1 : List UInt8 := [180, 0, 117, 161, 0, 5, 3, 172, 42, 27, 182, 1, 12, 61, 3, 62, 42, 180, 0, 7, 3, 29, 96, 46]
abbrev dktX3_isEaten_1 : List UInt8 := dkwX3_isEaten_1 ++ dktX3_isEaten_2
def dkwX3_isEaten_0 : List UInt8 := [42, 182, 1, 9, 60, 42, 180, 0, 117, 153, 0, 21, 27, 153, 0, 17, 42, 17, 3, 232, 182, 1, 12, 42]
abbrev dktX3_isEaten_0 : List UInt8 := dkwX3_isEaten_0 ++ dktX3_isEaten_1
theorem dksX3_isEaten_0 : cX3_isEaten.data.toList.drop 0 = dktX3_isEaten_0 := by decide +kernel
theorem dksX3_isEaten_1 : cX3_isEaten.data.toList.drop 24 = dktX3_isEaten_1 := dk_seg dksX3_isEaten_0 24 rfl rfl
theorem dksX3_isEaten_2 : cX3_isEaten.data.toList.drop 48 = dktX3_isEaten_2 := dk_seg dksX3_isEaten_1 24 rfl rfl
theorem dksX3_isEaten_3 : cX3_isEaten.data.toList.drop 72 = dktX3_isEaten_3 := dk_seg dksX3_isEaten_2 24 rfl rfl
theorem dX3_isEaten_0 : decode cX3_isEaten 0 = .ok (.aload_n 0, 1) := dk_42 (dk_at dksX3_isEaten_0 0 rfl rfl)
theorem dX3_isEaten_1 : decode cX3_isEaten 1 = .ok (.invokevirtual 265, 3) := dk_182 1 9 (dk_at dksX3_isEaten_0 1 rfl rfl)
theorem dX3_isEaten_4 : decode cX3_isEaten 4 = .ok (.istore_n 1, 1) := dk_60 (dk_at dksX3_isEaten_0 4 rfl rfl)
theorem dX3_isEaten_5 : decode cX3_isEaten 5 = .ok (.aload_n 0, 1) := dk_42 (dk_at dksX3_isEaten_0 5 rfl rfl)
theorem dX3_isEaten_6 : decode cX3_isEaten 6 = .ok (.getfield 117, 3) := dk_180 0 117 (dk_at dksX3_isEaten_0 6 rfl rfl)
theorem dX3_isEaten_9 : decode cX3_isEaten 9 = .ok (.ifCond .eq 21, 3) := dk_153 0 21 (dk_at dksX3_isEaten_0 9 rfl rfl)
theorem dX3_isEaten_12 : decode cX3_isEaten 12 = .ok (.iload_n 1, 1) := dk_27 (dk_at dksX3_isEaten_0 12 rfl rfl)
theorem dX3_isEaten_13 : decode cX3_isEaten 13 = .ok (.ifCond .eq 17, 3) := dk_153 0 17 (dk_at dksX3_isEaten_0 13 rfl rfl)
theorem dX3_isEaten_16 : decode cX3_isEaten 16 = .ok (.aload_n 0, 1) := dk_42 (dk_at dksX3_isEaten_0 16 rfl rfl)
theorem dX3_isEaten_17 : decode cX3_isEaten 17 = .ok (.sipush 1000, 3) := dk_17 3 232 (dk_at dksX3_isEaten_0 17 rfl rfl)
theorem dX3_isEaten_20 : decode cX3_isEaten 20 = .ok (.invokevirtual 268, 3) := dk_182 1 12 (dk_at dksX3_isEaten_0 20 rfl rfl)
theorem dX3_isEaten_23 : decode cX3_isEaten 23 = .ok (.aload_n 0, 1) := dk_42 (dk_at dksX3_isEaten_0 23 rfl rfl)
theorem dX3_isEaten_24 : decode cX3_isEaten 24 = .ok (.getfield 117, 3) := dk_180 0 117 (dk_at dksX3_isEaten_1 0 rfl rfl)
theorem dX3_isEaten_27 : decode cX3_isEaten 27 = .ok (.if_icmp .lt 5, 3) := dk_161 0 5 (dk_at dksX3_isEaten_1 3 rfl rfl)
theorem dX3_isEaten_30 : decode cX3_isEaten 30 = .ok (.iconst 0, 1) := dk_3 (dk_at dksX3_isEaten_1 6 rfl rfl)
theorem dX3_isEaten_31 : decode cX3_isEaten 31 = .ok (.ireturn, 1) := dk_172 (dk_at dksX3_isEaten_1 7 rfl rfl)
theorem dX3_isEaten_32 : decode cX3_isEaten 32 = .ok (.aload_n 0, 1) := dk_42 (dk_at dksX3_isEaten_1 8 rfl rfl)
theorem dX3_isEaten_33 : decode cX3_isEaten 33 = .ok (.iload_n 1, 1) := dk_27 (dk_at dksX3_isEaten_1 9 rfl rfl)
theorem dX3_isEaten_34 : decode cX3_isEaten 34 = .ok (.invokevirtual 268, 3) := dk_182 1 12 (dk_at dksX3_isEaten_1 10 rfl rfl)
theorem dX3_isEaten_37 : decode cX3_isEaten 37 = .ok (.istore_n 2, 1) := dk_61 (dk_at dksX3_isEaten_1 13 rfl rfl)
theorem dX3_isEaten_38 : decode cX3_isEaten 38 = .ok (.iconst 0, 1) := dk_3 (dk_at dksX3_isEaten_1 14 rfl rfl)
theorem dX3_isEaten_39 : decode cX3_isEaten 39 = .ok (.istore_n 3, 1) := dk_62 (dk_at dksX3_isEaten_1 15 rfl rfl)
theorem dX3_isEaten_40 : decode cX3_isEaten 40 = .ok (.aload_n 0, 1) := dk_42 (dk_at dksX3_isEaten_1 16 rfl rfl)
theorem dX3_isEaten_41 : decode cX3_isEaten 41 = .ok (.getfield 7, 3) := dk_180 0 7 (dk_at dksX3_isEaten_1 17 rfl rfl)
theorem dX3_isEaten_44 : decode cX3_isEaten 44 = .ok (.iconst 0, 1) := dk_3 (dk_at dksX3_isEaten_1 20 rfl rfl)
theorem dX3_isEaten_45 : decode cX3_isEaten 45 = .ok (.iload_n 3, 1) := dk_29 (dk_at dksX3_isEaten_1 21 rfl rfl)
theorem dX3_isEaten_46 : decode cX3_isEaten 46 = .ok (.iadd, 1) := dk_96 (dk_at dksX3_isEaten_1 22 rfl rfl)
theorem dX3_isEaten_47 : decode cX3_isEaten 47 = .ok (.iaload, 1) := dk_46 (dk_at dksX3_isEaten_1 23 rfl rfl)
theorem dX3_isEaten_48 : decode cX3_isEaten 48 = .ok (.ifCond .eq 7, 3) := dk_153 0 7 (dk_at dksX3_isEaten_2 0 rfl rfl)
theorem dX3_isEaten_51 : decode cX3_isEaten 51 = .ok (.iload_n 2, 1) := dk_28 (dk_at dksX3_isEaten_2 3 rfl rfl)
theorem dX3_isEaten_52 : decode cX3_isEaten 52 = .ok (.ifCond .le 25, 3) := dk_158 0 25 (dk_at dksX3_isEaten_2 4 rfl rfl)
theorem dX3_isEaten_55 : decode cX3_isEaten 55 = .ok (.aload_n 0, 1) := dk_42 (dk_at dksX3_isEaten_2 7 rfl rfl)
theorem dX3_isEaten_56 : decode cX3_isEaten 56 = .ok (.getfield 7, 3) := dk_180 0 7 (dk_at dksX3_isEaten_2 8 rfl rfl)
theorem dX3_isEaten_59 : decode cX3_isEaten 59 = .ok (.iconst 0, 1) := dk_3 (dk_at dksX3_isEaten_2 11 rfl rfl)
theorem dX3_isEaten_60 : decode cX3_isEaten 60 = .ok (.iload_n 3, 1) := dk_29 (dk_at dksX3_isEaten_2 12 rfl rfl)
theorem dX3_isEaten_61 : decode cX3_isEaten 61 = .ok (.iadd, 1) := dk_96 (dk_at dksX3_isEaten_2 13 rfl rfl)
theorem dX3_isEaten_62 : decode cX3_isEaten 62 = .ok (.iaload, 1) := dk_46 (dk_at dksX3_isEaten_2 14 rfl rfl)
theorem dX3_isEaten_63 : decode cX3_isEaten 63 = .ok (.ifCond .le 7, 3) := dk_158 0 7 (dk_at dksX3_isEaten_2 15 rfl rfl)
theorem dX3_isEaten_66 : decode cX3_isEaten 66 = .ok (.iload_n 2, 1) := dk_28 (dk_at dksX3_isEaten_2 18 rfl rfl)
theorem dX3_isEaten_67 : decode cX3_isEaten 67 = .ok (.iconst 1, 1) := dk_4 (dk_at dksX3_isEaten_2 19 rfl rfl)
theorem dX3_isEaten_68 : decode cX3_isEaten 68 = .ok (.isub, 1) := dk_100 (dk_at dksX3_isEaten_2 20 rfl rfl)
theorem dX3_isEaten_69 : decode cX3_isEaten 69 = .ok (.istore_n 2, 1) := dk_61 (dk_at dksX3_isEaten_2 21 rfl rfl)
theorem dX3_isEaten_70 : decode cX3_isEaten 70 = .ok (.iload_n 3, 1) := dk_29 (dk_at dksX3_isEaten_2 22 rfl rfl)
theorem dX3_isEaten_71 : decode cX3_isEaten 71 = .ok (.iconst 1, 1) := dk_4 (dk_at dksX3_isEaten_2 23 rfl rfl)
theorem dX3_isEaten_72 : decode cX3_isEaten 72 = .ok (.iadd, 1) := dk_96 (dk_at dksX3_isEaten_3 0 rfl rfl)
theorem dX3_isEaten_73 : decode cX3_isEaten 73 = .ok (.istore_n 3, 1) := dk_62 (dk_at dksX3_isEaten_3 1 rfl rfl)
theorem dX3_isEaten_74 : decode cX3_isEaten 74 = .ok (.goto (-34), 3) := dk_167 255 222 (dk_at dksX3_isEaten_3 2 rfl rfl)
theorem dX3_isEaten_77 : decode cX3_isEaten 77 = .ok (.aload_n 0, 1) := dk_42 (dk_at dksX3_isEaten_3 5 rfl rfl)
theorem dX3_isEaten_78 : decode cX3_isEaten 78 = .ok (.getfield 7, 3) := dk_180 0 7 (dk_at dksX3_isEaten_3 6 rfl rfl)
theorem dX3_isEaten_81 : decode cX3_isEaten 81 = .ok (.iconst 0, 1) := dk_3 (dk_at dksX3_isEaten_3 9 rfl rfl)
theorem dX3_isEaten_82 : decode cX3_isEaten 82 = .ok (.iload_n 3, 1) := dk_29 (dk_at dksX3_isEaten_3 10 rfl rfl)
theorem dX3_isEaten_83 : decode cX3_isEaten 83 = .ok (.iadd, 1) := dk_96 (dk_at dksX3_isEaten_3 11 rfl rfl)
theorem dX3_isEaten_84 : decode cX3_isEaten 84 = .ok (.iconst 0, 1) := dk_3 (dk_at dksX3_isEaten_3 12 rfl rfl)
theorem dX3_isEaten_85 : decode cX3_isEaten 85 = .ok (.iastore, 1) := dk_79 (dk_at dksX3_isEaten_3 13 rfl rfl)
theorem dX3_isEaten_86 : decode cX3_isEaten 86 = .ok (.iconst 1, 1) := dk_4 (dk_at dksX3_isEaten_3 14 rfl rfl)
theorem dX3_isEaten_87 : decode cX3_isEaten 87 = .ok (.ireturn, 1) := dk_172 (dk_at dksX3_isEaten_3 15 rfl rfl)
abbrev cX3_caps : ByteArray := prog_14_method_55_code
def yX3_caps : MethodName := ⟨RX3, "caps", "()I"⟩
def dkwX3_caps_1 : List UInt8 := [60, 132, 2, 1, 167, 255, 232, 27, 172]
abbrev dktX3_caps_1 : List UInt8 := dkwX3_caps_1 ++ []
def dkwX3_caps_0 : List UInt8 := [3, 60, 3, 61, 28, 16, 64, 162, 0, 24, 42, 180, 0, 7, 3, 28, 96, 46, 158, 0, 7, 27, 4, 96]
abbrev dktX3_caps_0 : List UInt8 := dkwX3_caps_0 ++ dktX3_caps_1
theorem dksX3_caps_0 : cX3_caps.data.toList.drop 0 = dktX3_caps_0 := by decide +kernel
theorem dksX3_caps_1 : cX3_caps.data.toList.drop 24 = dktX3_caps_1 := dk_seg dksX3_caps_0 24 rfl rfl
theorem dX3_caps_0 : decode cX3_caps 0 = .ok (.iconst 0, 1) := dk_3 (dk_at dksX3_caps_0 0 rfl rfl)
theorem dX3_caps_1 : decode cX3_caps 1 = .ok (.istore_n 1, 1) := dk_60 (dk_at dksX3_caps_0 1 rfl rfl)
theorem dX3_caps_2 : decode cX3_caps 2 = .ok (.iconst 0, 1) := dk_3 (dk_at dksX3_caps_0 2 rfl rfl)
theorem dX3_caps_3 : decode cX3_caps 3 = .ok (.istore_n 2, 1) := dk_61 (dk_at dksX3_caps_0 3 rfl rfl)
theorem dX3_caps_4 : decode cX3_caps 4 = .ok (.iload_n 2, 1) := dk_28 (dk_at dksX3_caps_0 4 rfl rfl)
theorem dX3_caps_5 : decode cX3_caps 5 = .ok (.bipush 64, 2) := dk_16 64 (dk_at dksX3_caps_0 5 rfl rfl)
theorem dX3_caps_7 : decode cX3_caps 7 = .ok (.if_icmp .ge 24, 3) := dk_162 0 24 (dk_at dksX3_caps_0 7 rfl rfl)
theorem dX3_caps_10 : decode cX3_caps 10 = .ok (.aload_n 0, 1) := dk_42 (dk_at dksX3_caps_0 10 rfl rfl)
theorem dX3_caps_11 : decode cX3_caps 11 = .ok (.getfield 7, 3) := dk_180 0 7 (dk_at dksX3_caps_0 11 rfl rfl)
theorem dX3_caps_14 : decode cX3_caps 14 = .ok (.iconst 0, 1) := dk_3 (dk_at dksX3_caps_0 14 rfl rfl)
theorem dX3_caps_15 : decode cX3_caps 15 = .ok (.iload_n 2, 1) := dk_28 (dk_at dksX3_caps_0 15 rfl rfl)
theorem dX3_caps_16 : decode cX3_caps 16 = .ok (.iadd, 1) := dk_96 (dk_at dksX3_caps_0 16 rfl rfl)
theorem dX3_caps_17 : decode cX3_caps 17 = .ok (.iaload, 1) := dk_46 (dk_at dksX3_caps_0 17 rfl rfl)
theorem dX3_caps_18 : decode cX3_caps 18 = .ok (.ifCond .le 7, 3) := dk_158 0 7 (dk_at dksX3_caps_0 18 rfl rfl)
theorem dX3_caps_21 : decode cX3_caps 21 = .ok (.iload_n 1, 1) := dk_27 (dk_at dksX3_caps_0 21 rfl rfl)
theorem dX3_caps_22 : decode cX3_caps 22 = .ok (.iconst 1, 1) := dk_4 (dk_at dksX3_caps_0 22 rfl rfl)
theorem dX3_caps_23 : decode cX3_caps 23 = .ok (.iadd, 1) := dk_96 (dk_at dksX3_caps_0 23 rfl rfl)
theorem dX3_caps_24 : decode cX3_caps 24 = .ok (.istore_n 1, 1) := dk_60 (dk_at dksX3_caps_1 0 rfl rfl)
theorem dX3_caps_25 : decode cX3_caps 25 = .ok (.iinc 2 1, 3) := dk_132 2 1 (dk_at dksX3_caps_1 1 rfl rfl)
theorem dX3_caps_28 : decode cX3_caps 28 = .ok (.goto (-24), 3) := dk_167 255 232 (dk_at dksX3_caps_1 4 rfl rfl)
theorem dX3_caps_31 : decode cX3_caps 31 = .ok (.iload_n 1, 1) := dk_27 (dk_at dksX3_caps_1 7 rfl rfl)
theorem dX3_caps_32 : decode cX3_caps 32 = .ok (.ireturn, 1) := dk_172 (dk_at dksX3_caps_1 8 rfl rfl)
abbrev cX3_draw : ByteArray := prog_14_method_9_code
def yX3_draw : MethodName := ⟨RX3, "draw", "(I)I"⟩
def dkwX3_draw_0 : List UInt8 := [42, 18, 95, 42, 180, 0, 92, 104, 18, 96, 96, 181, 0, 92, 42, 180, 0, 92, 16, 8, 124, 27, 112, 172]
abbrev dktX3_draw_0 : List UInt8 := dkwX3_draw_0 ++ []
theorem dksX3_draw_0 : cX3_draw.data.toList.drop 0 = dktX3_draw_0 := by decide +kernel
theorem dX3_draw_0 : decode cX3_draw 0 = .ok (.aload_n 0, 1) := dk_42 (dk_at dksX3_draw_0 0 rfl rfl)
theorem dX3_draw_1 : decode cX3_draw 1 = .ok (.ldc 95, 2) := dk_18 95 (dk_at dksX3_draw_0 1 rfl rfl)
theorem dX3_draw_3 : decode cX3_draw 3 = .ok (.aload_n 0, 1) := dk_42 (dk_at dksX3_draw_0 3 rfl rfl)
theorem dX3_draw_4 : decode cX3_draw 4 = .ok (.getfield 92, 3) := dk_180 0 92 (dk_at dksX3_draw_0 4 rfl rfl)
theorem dX3_draw_7 : decode cX3_draw 7 = .ok (.imul, 1) := dk_104 (dk_at dksX3_draw_0 7 rfl rfl)
theorem dX3_draw_8 : decode cX3_draw 8 = .ok (.ldc 96, 2) := dk_18 96 (dk_at dksX3_draw_0 8 rfl rfl)
theorem dX3_draw_10 : decode cX3_draw 10 = .ok (.iadd, 1) := dk_96 (dk_at dksX3_draw_0 10 rfl rfl)
theorem dX3_draw_11 : decode cX3_draw 11 = .ok (.putfield 92, 3) := dk_181 0 92 (dk_at dksX3_draw_0 11 rfl rfl)
theorem dX3_draw_14 : decode cX3_draw 14 = .ok (.aload_n 0, 1) := dk_42 (dk_at dksX3_draw_0 14 rfl rfl)
theorem dX3_draw_15 : decode cX3_draw 15 = .ok (.getfield 92, 3) := dk_180 0 92 (dk_at dksX3_draw_0 15 rfl rfl)
theorem dX3_draw_18 : decode cX3_draw 18 = .ok (.bipush 8, 2) := dk_16 8 (dk_at dksX3_draw_0 18 rfl rfl)
theorem dX3_draw_20 : decode cX3_draw 20 = .ok (.iushr, 1) := dk_124 (dk_at dksX3_draw_0 20 rfl rfl)
theorem dX3_draw_21 : decode cX3_draw 21 = .ok (.iload_n 1, 1) := dk_27 (dk_at dksX3_draw_0 21 rfl rfl)
theorem dX3_draw_22 : decode cX3_draw 22 = .ok (.irem, 1) := dk_112 (dk_at dksX3_draw_0 22 rfl rfl)
theorem dX3_draw_23 : decode cX3_draw 23 = .ok (.ireturn, 1) := dk_172 (dk_at dksX3_draw_0 23 rfl rfl)
abbrev cX3_rains : ByteArray := prog_14_method_57_code
def yX3_rains : MethodName := ⟨RX3, "rains", "()V"⟩
def dkwX3_rains_4 : List UInt8 := [16, 246, 162, 0, 8, 16, 246, 167, 0, 4, 29, 79, 132, 2, 1, 167, 255, 201, 177]
abbrev dktX3_rains_4 : List UInt8 := dkwX3_rains_4 ++ []
def dkwX3_rains_3 : List UInt8 := [167, 0, 4, 2, 96, 62, 42, 180, 0, 23, 28, 29, 16, 89, 164, 0, 8, 16, 89, 167, 0, 15, 29]
abbrev dktX3_rains_3 : List UInt8 := dkwX3_rains_3 ++ dktX3_rains_4
def dkwX3_rains_2 : List UInt8 := [167, 0, 4, 3, 60, 3, 61, 28, 16, 64, 162, 0, 55, 42, 180, 0, 23, 28, 46, 27, 153, 0, 7, 8]
abbrev dktX3_rains_2 : List UInt8 := dkwX3_rains_2 ++ dktX3_rains_3
def dkwX3_rains_1 : List UInt8 := [182, 1, 12, 42, 180, 0, 111, 16, 50, 42, 180, 0, 7, 17, 1, 90, 46, 104, 96, 162, 0, 7, 4]
abbrev dktX3_rains_1 : List UInt8 := dkwX3_rains_1 ++ dktX3_rains_2
def dkwX3_rains_0 : List UInt8 := [42, 180, 0, 111, 157, 0, 14, 42, 180, 0, 7, 17, 1, 90, 46, 158, 0, 33, 42, 17, 3, 232]
abbrev dktX3_rains_0 : List UInt8 := dkwX3_rains_0 ++ dktX3_rains_1
theorem dksX3_rains_0 : cX3_rains.data.toList.drop 0 = dktX3_rains_0 := by decide +kernel
theorem dksX3_rains_1 : cX3_rains.data.toList.drop 22 = dktX3_rains_1 := dk_seg dksX3_rains_0 22 rfl rfl
theorem dksX3_rains_2 : cX3_rains.data.toList.drop 45 = dktX3_rains_2 := dk_seg dksX3_rains_1 23 rfl rfl
theorem dksX3_rains_3 : cX3_rains.data.toList.drop 69 = dktX3_rains_3 := dk_seg dksX3_rains_2 24 rfl rfl
theorem dksX3_rains_4 : cX3_rains.data.toList.drop 92 = dktX3_rains_4 := dk_seg dksX3_rains_3 23 rfl rfl
theorem dX3_rains_0 : decode cX3_rains 0 = .ok (.aload_n 0, 1) := dk_42 (dk_at dksX3_rains_0 0 rfl rfl)
theorem dX3_rains_1 : decode cX3_rains 1 = .ok (.getfield 111, 3) := dk_180 0 111 (dk_at dksX3_rains_0 1 rfl rfl)
theorem dX3_rains_4 : decode cX3_rains 4 = .ok (.ifCond .gt 14, 3) := dk_157 0 14 (dk_at dksX3_rains_0 4 rfl rfl)
theorem dX3_rains_7 : decode cX3_rains 7 = .ok (.aload_n 0, 1) := dk_42 (dk_at dksX3_rains_0 7 rfl rfl)
theorem dX3_rains_8 : decode cX3_rains 8 = .ok (.getfield 7, 3) := dk_180 0 7 (dk_at dksX3_rains_0 8 rfl rfl)
theorem dX3_rains_11 : decode cX3_rains 11 = .ok (.sipush 346, 3) := dk_17 1 90 (dk_at dksX3_rains_0 11 rfl rfl)
theorem dX3_rains_14 : decode cX3_rains 14 = .ok (.iaload, 1) := dk_46 (dk_at dksX3_rains_0 14 rfl rfl)
theorem dX3_rains_15 : decode cX3_rains 15 = .ok (.ifCond .le 33, 3) := dk_158 0 33 (dk_at dksX3_rains_0 15 rfl rfl)
theorem dX3_rains_18 : decode cX3_rains 18 = .ok (.aload_n 0, 1) := dk_42 (dk_at dksX3_rains_0 18 rfl rfl)
theorem dX3_rains_19 : decode cX3_rains 19 = .ok (.sipush 1000, 3) := dk_17 3 232 (dk_at dksX3_rains_0 19 rfl rfl)
theorem dX3_rains_22 : decode cX3_rains 22 = .ok (.invokevirtual 268, 3) := dk_182 1 12 (dk_at dksX3_rains_1 0 rfl rfl)
theorem dX3_rains_25 : decode cX3_rains 25 = .ok (.aload_n 0, 1) := dk_42 (dk_at dksX3_rains_1 3 rfl rfl)
theorem dX3_rains_26 : decode cX3_rains 26 = .ok (.getfield 111, 3) := dk_180 0 111 (dk_at dksX3_rains_1 4 rfl rfl)
theorem dX3_rains_29 : decode cX3_rains 29 = .ok (.bipush 50, 2) := dk_16 50 (dk_at dksX3_rains_1 7 rfl rfl)
theorem dX3_rains_31 : decode cX3_rains 31 = .ok (.aload_n 0, 1) := dk_42 (dk_at dksX3_rains_1 9 rfl rfl)
theorem dX3_rains_32 : decode cX3_rains 32 = .ok (.getfield 7, 3) := dk_180 0 7 (dk_at dksX3_rains_1 10 rfl rfl)
theorem dX3_rains_35 : decode cX3_rains 35 = .ok (.sipush 346, 3) := dk_17 1 90 (dk_at dksX3_rains_1 13 rfl rfl)
theorem dX3_rains_38 : decode cX3_rains 38 = .ok (.iaload, 1) := dk_46 (dk_at dksX3_rains_1 16 rfl rfl)
theorem dX3_rains_39 : decode cX3_rains 39 = .ok (.imul, 1) := dk_104 (dk_at dksX3_rains_1 17 rfl rfl)
theorem dX3_rains_40 : decode cX3_rains 40 = .ok (.iadd, 1) := dk_96 (dk_at dksX3_rains_1 18 rfl rfl)
theorem dX3_rains_41 : decode cX3_rains 41 = .ok (.if_icmp .ge 7, 3) := dk_162 0 7 (dk_at dksX3_rains_1 19 rfl rfl)
theorem dX3_rains_44 : decode cX3_rains 44 = .ok (.iconst 1, 1) := dk_4 (dk_at dksX3_rains_1 22 rfl rfl)
theorem dX3_rains_45 : decode cX3_rains 45 = .ok (.goto 4, 3) := dk_167 0 4 (dk_at dksX3_rains_2 0 rfl rfl)
theorem dX3_rains_48 : decode cX3_rains 48 = .ok (.iconst 0, 1) := dk_3 (dk_at dksX3_rains_2 3 rfl rfl)
theorem dX3_rains_49 : decode cX3_rains 49 = .ok (.istore_n 1, 1) := dk_60 (dk_at dksX3_rains_2 4 rfl rfl)
theorem dX3_rains_50 : decode cX3_rains 50 = .ok (.iconst 0, 1) := dk_3 (dk_at dksX3_rains_2 5 rfl rfl)
theorem dX3_rains_51 : decode cX3_rains 51 = .ok (.istore_n 2, 1) := dk_61 (dk_at dksX3_rains_2 6 rfl rfl)
theorem dX3_rains_52 : decode cX3_rains 52 = .ok (.iload_n 2, 1) := dk_28 (dk_at dksX3_rains_2 7 rfl rfl)
theorem dX3_rains_53 : decode cX3_rains 53 = .ok (.bipush 64, 2) := dk_16 64 (dk_at dksX3_rains_2 8 rfl rfl)
theorem dX3_rains_55 : decode cX3_rains 55 = .ok (.if_icmp .ge 55, 3) := dk_162 0 55 (dk_at dksX3_rains_2 10 rfl rfl)
theorem dX3_rains_58 : decode cX3_rains 58 = .ok (.aload_n 0, 1) := dk_42 (dk_at dksX3_rains_2 13 rfl rfl)
theorem dX3_rains_59 : decode cX3_rains 59 = .ok (.getfield 23, 3) := dk_180 0 23 (dk_at dksX3_rains_2 14 rfl rfl)
theorem dX3_rains_62 : decode cX3_rains 62 = .ok (.iload_n 2, 1) := dk_28 (dk_at dksX3_rains_2 17 rfl rfl)
theorem dX3_rains_63 : decode cX3_rains 63 = .ok (.iaload, 1) := dk_46 (dk_at dksX3_rains_2 18 rfl rfl)
theorem dX3_rains_64 : decode cX3_rains 64 = .ok (.iload_n 1, 1) := dk_27 (dk_at dksX3_rains_2 19 rfl rfl)
theorem dX3_rains_65 : decode cX3_rains 65 = .ok (.ifCond .eq 7, 3) := dk_153 0 7 (dk_at dksX3_rains_2 20 rfl rfl)
theorem dX3_rains_68 : decode cX3_rains 68 = .ok (.iconst 5, 1) := dk_8 (dk_at dksX3_rains_2 23 rfl rfl)
theorem dX3_rains_69 : decode cX3_rains 69 = .ok (.goto 4, 3) := dk_167 0 4 (dk_at dksX3_rains_3 0 rfl rfl)
theorem dX3_rains_72 : decode cX3_rains 72 = .ok (.iconst (-1), 1) := dk_2 (dk_at dksX3_rains_3 3 rfl rfl)
theorem dX3_rains_73 : decode cX3_rains 73 = .ok (.iadd, 1) := dk_96 (dk_at dksX3_rains_3 4 rfl rfl)
theorem dX3_rains_74 : decode cX3_rains 74 = .ok (.istore_n 3, 1) := dk_62 (dk_at dksX3_rains_3 5 rfl rfl)
theorem dX3_rains_75 : decode cX3_rains 75 = .ok (.aload_n 0, 1) := dk_42 (dk_at dksX3_rains_3 6 rfl rfl)
theorem dX3_rains_76 : decode cX3_rains 76 = .ok (.getfield 23, 3) := dk_180 0 23 (dk_at dksX3_rains_3 7 rfl rfl)
theorem dX3_rains_79 : decode cX3_rains 79 = .ok (.iload_n 2, 1) := dk_28 (dk_at dksX3_rains_3 10 rfl rfl)
theorem dX3_rains_80 : decode cX3_rains 80 = .ok (.iload_n 3, 1) := dk_29 (dk_at dksX3_rains_3 11 rfl rfl)
theorem dX3_rains_81 : decode cX3_rains 81 = .ok (.bipush 89, 2) := dk_16 89 (dk_at dksX3_rains_3 12 rfl rfl)
theorem dX3_rains_83 : decode cX3_rains 83 = .ok (.if_icmp .le 8, 3) := dk_164 0 8 (dk_at dksX3_rains_3 14 rfl rfl)
theorem dX3_rains_86 : decode cX3_rains 86 = .ok (.bipush 89, 2) := dk_16 89 (dk_at dksX3_rains_3 17 rfl rfl)
theorem dX3_rains_88 : decode cX3_rains 88 = .ok (.goto 15, 3) := dk_167 0 15 (dk_at dksX3_rains_3 19 rfl rfl)
theorem dX3_rains_91 : decode cX3_rains 91 = .ok (.iload_n 3, 1) := dk_29 (dk_at dksX3_rains_3 22 rfl rfl)
theorem dX3_rains_92 : decode cX3_rains 92 = .ok (.bipush (-10), 2) := dk_16 246 (dk_at dksX3_rains_4 0 rfl rfl)
theorem dX3_rains_94 : decode cX3_rains 94 = .ok (.if_icmp .ge 8, 3) := dk_162 0 8 (dk_at dksX3_rains_4 2 rfl rfl)
theorem dX3_rains_97 : decode cX3_rains 97 = .ok (.bipush (-10), 2) := dk_16 246 (dk_at dksX3_rains_4 5 rfl rfl)
theorem dX3_rains_99 : decode cX3_rains 99 = .ok (.goto 4, 3) := dk_167 0 4 (dk_at dksX3_rains_4 7 rfl rfl)
theorem dX3_rains_102 : decode cX3_rains 102 = .ok (.iload_n 3, 1) := dk_29 (dk_at dksX3_rains_4 10 rfl rfl)
theorem dX3_rains_103 : decode cX3_rains 103 = .ok (.iastore, 1) := dk_79 (dk_at dksX3_rains_4 11 rfl rfl)
theorem dX3_rains_104 : decode cX3_rains 104 = .ok (.iinc 2 1, 3) := dk_132 2 1 (dk_at dksX3_rains_4 12 rfl rfl)
theorem dX3_rains_107 : decode cX3_rains 107 = .ok (.goto (-55), 3) := dk_167 255 201 (dk_at dksX3_rains_4 15 rfl rfl)
theorem dX3_rains_110 : decode cX3_rains 110 = .ok (.return_, 1) := dk_177 (dk_at dksX3_rains_4 18 rfl rfl)
abbrev cX3_at : ByteArray := prog_14_method_61_code
def yX3_at : MethodName := ⟨RX3, "at", "(II)I"⟩
def dkwX3_at_5 : List UInt8 := [46, 172, 42, 182, 1, 15, 42, 27, 3, 42, 180, 0, 120, 182, 1, 6, 172]
abbrev dktX3_at_5 : List UInt8 := dkwX3_at_5 ++ []
def dkwX3_at_4 : List UInt8 := [180, 0, 7, 17, 0, 128, 27, 96, 46, 172, 28, 7, 160, 0, 14, 42, 180, 0, 7, 17, 0, 192, 27, 96]
abbrev dktX3_at_4 : List UInt8 := dkwX3_at_4 ++ dktX3_at_5
def dkwX3_at_3 : List UInt8 := [172, 28, 5, 160, 0, 13, 42, 180, 0, 7, 16, 64, 27, 96, 46, 172, 28, 6, 160, 0, 14, 42]
abbrev dktX3_at_3 : List UInt8 := dkwX3_at_3 ++ dktX3_at_4
def dkwX3_at_2 : List UInt8 := [180, 0, 23, 27, 46, 16, 10, 96, 172, 28, 4, 160, 0, 14, 42, 180, 0, 7, 3, 27, 96, 46, 4, 100]
abbrev dktX3_at_2 : List UInt8 := dkwX3_at_2 ++ dktX3_at_3
def dkwX3_at_1 : List UInt8 := [158, 0, 18, 42, 180, 0, 7, 3, 27, 96, 46, 154, 0, 7, 17, 252, 24, 172, 28, 154, 0, 13, 42]
abbrev dktX3_at_1 : List UInt8 := dkwX3_at_1 ++ dktX3_at_2
def dkwX3_at_0 : List UInt8 := [42, 3, 181, 0, 86, 42, 27, 182, 0, 129, 153, 0, 28, 42, 28, 3, 8, 182, 0, 107, 153, 0, 18, 28]
abbrev dktX3_at_0 : List UInt8 := dkwX3_at_0 ++ dktX3_at_1
theorem dksX3_at_0 : cX3_at.data.toList.drop 0 = dktX3_at_0 := by decide +kernel
theorem dksX3_at_1 : cX3_at.data.toList.drop 24 = dktX3_at_1 := dk_seg dksX3_at_0 24 rfl rfl
theorem dksX3_at_2 : cX3_at.data.toList.drop 47 = dktX3_at_2 := dk_seg dksX3_at_1 23 rfl rfl
theorem dksX3_at_3 : cX3_at.data.toList.drop 71 = dktX3_at_3 := dk_seg dksX3_at_2 24 rfl rfl
theorem dksX3_at_4 : cX3_at.data.toList.drop 93 = dktX3_at_4 := dk_seg dksX3_at_3 22 rfl rfl
theorem dksX3_at_5 : cX3_at.data.toList.drop 117 = dktX3_at_5 := dk_seg dksX3_at_4 24 rfl rfl
theorem dX3_at_0 : decode cX3_at 0 = .ok (.aload_n 0, 1) := dk_42 (dk_at dksX3_at_0 0 rfl rfl)
theorem dX3_at_1 : decode cX3_at 1 = .ok (.iconst 0, 1) := dk_3 (dk_at dksX3_at_0 1 rfl rfl)
theorem dX3_at_2 : decode cX3_at 2 = .ok (.putfield 86, 3) := dk_181 0 86 (dk_at dksX3_at_0 2 rfl rfl)
theorem dX3_at_5 : decode cX3_at 5 = .ok (.aload_n 0, 1) := dk_42 (dk_at dksX3_at_0 5 rfl rfl)
theorem dX3_at_6 : decode cX3_at 6 = .ok (.iload_n 1, 1) := dk_27 (dk_at dksX3_at_0 6 rfl rfl)
theorem dX3_at_7 : decode cX3_at 7 = .ok (.invokevirtual 129, 3) := dk_182 0 129 (dk_at dksX3_at_0 7 rfl rfl)
theorem dX3_at_10 : decode cX3_at 10 = .ok (.ifCond .eq 28, 3) := dk_153 0 28 (dk_at dksX3_at_0 10 rfl rfl)
theorem dX3_at_13 : decode cX3_at 13 = .ok (.aload_n 0, 1) := dk_42 (dk_at dksX3_at_0 13 rfl rfl)
theorem dX3_at_14 : decode cX3_at 14 = .ok (.iload_n 2, 1) := dk_28 (dk_at dksX3_at_0 14 rfl rfl)
theorem dX3_at_15 : decode cX3_at 15 = .ok (.iconst 0, 1) := dk_3 (dk_at dksX3_at_0 15 rfl rfl)
theorem dX3_at_16 : decode cX3_at 16 = .ok (.iconst 5, 1) := dk_8 (dk_at dksX3_at_0 16 rfl rfl)
theorem dX3_at_17 : decode cX3_at 17 = .ok (.invokevirtual 107, 3) := dk_182 0 107 (dk_at dksX3_at_0 17 rfl rfl)
theorem dX3_at_20 : decode cX3_at 20 = .ok (.ifCond .eq 18, 3) := dk_153 0 18 (dk_at dksX3_at_0 20 rfl rfl)
theorem dX3_at_23 : decode cX3_at 23 = .ok (.iload_n 2, 1) := dk_28 (dk_at dksX3_at_0 23 rfl rfl)
theorem dX3_at_24 : decode cX3_at 24 = .ok (.ifCond .le 18, 3) := dk_158 0 18 (dk_at dksX3_at_1 0 rfl rfl)
theorem dX3_at_27 : decode cX3_at 27 = .ok (.aload_n 0, 1) := dk_42 (dk_at dksX3_at_1 3 rfl rfl)
theorem dX3_at_28 : decode cX3_at 28 = .ok (.getfield 7, 3) := dk_180 0 7 (dk_at dksX3_at_1 4 rfl rfl)
theorem dX3_at_31 : decode cX3_at 31 = .ok (.iconst 0, 1) := dk_3 (dk_at dksX3_at_1 7 rfl rfl)
theorem dX3_at_32 : decode cX3_at 32 = .ok (.iload_n 1, 1) := dk_27 (dk_at dksX3_at_1 8 rfl rfl)
theorem dX3_at_33 : decode cX3_at 33 = .ok (.iadd, 1) := dk_96 (dk_at dksX3_at_1 9 rfl rfl)
theorem dX3_at_34 : decode cX3_at 34 = .ok (.iaload, 1) := dk_46 (dk_at dksX3_at_1 10 rfl rfl)
theorem dX3_at_35 : decode cX3_at 35 = .ok (.ifCond .ne 7, 3) := dk_154 0 7 (dk_at dksX3_at_1 11 rfl rfl)
theorem dX3_at_38 : decode cX3_at 38 = .ok (.sipush (-1000), 3) := dk_17 252 24 (dk_at dksX3_at_1 14 rfl rfl)
theorem dX3_at_41 : decode cX3_at 41 = .ok (.ireturn, 1) := dk_172 (dk_at dksX3_at_1 17 rfl rfl)
theorem dX3_at_42 : decode cX3_at 42 = .ok (.iload_n 2, 1) := dk_28 (dk_at dksX3_at_1 18 rfl rfl)
theorem dX3_at_43 : decode cX3_at 43 = .ok (.ifCond .ne 13, 3) := dk_154 0 13 (dk_at dksX3_at_1 19 rfl rfl)
theorem dX3_at_46 : decode cX3_at 46 = .ok (.aload_n 0, 1) := dk_42 (dk_at dksX3_at_1 22 rfl rfl)
theorem dX3_at_47 : decode cX3_at 47 = .ok (.getfield 23, 3) := dk_180 0 23 (dk_at dksX3_at_2 0 rfl rfl)
theorem dX3_at_50 : decode cX3_at 50 = .ok (.iload_n 1, 1) := dk_27 (dk_at dksX3_at_2 3 rfl rfl)
theorem dX3_at_51 : decode cX3_at 51 = .ok (.iaload, 1) := dk_46 (dk_at dksX3_at_2 4 rfl rfl)
theorem dX3_at_52 : decode cX3_at 52 = .ok (.bipush 10, 2) := dk_16 10 (dk_at dksX3_at_2 5 rfl rfl)
theorem dX3_at_54 : decode cX3_at 54 = .ok (.iadd, 1) := dk_96 (dk_at dksX3_at_2 7 rfl rfl)
theorem dX3_at_55 : decode cX3_at 55 = .ok (.ireturn, 1) := dk_172 (dk_at dksX3_at_2 8 rfl rfl)
theorem dX3_at_56 : decode cX3_at 56 = .ok (.iload_n 2, 1) := dk_28 (dk_at dksX3_at_2 9 rfl rfl)
theorem dX3_at_57 : decode cX3_at 57 = .ok (.iconst 1, 1) := dk_4 (dk_at dksX3_at_2 10 rfl rfl)
theorem dX3_at_58 : decode cX3_at 58 = .ok (.if_icmp .ne 14, 3) := dk_160 0 14 (dk_at dksX3_at_2 11 rfl rfl)
theorem dX3_at_61 : decode cX3_at 61 = .ok (.aload_n 0, 1) := dk_42 (dk_at dksX3_at_2 14 rfl rfl)
theorem dX3_at_62 : decode cX3_at 62 = .ok (.getfield 7, 3) := dk_180 0 7 (dk_at dksX3_at_2 15 rfl rfl)
theorem dX3_at_65 : decode cX3_at 65 = .ok (.iconst 0, 1) := dk_3 (dk_at dksX3_at_2 18 rfl rfl)
theorem dX3_at_66 : decode cX3_at 66 = .ok (.iload_n 1, 1) := dk_27 (dk_at dksX3_at_2 19 rfl rfl)
theorem dX3_at_67 : decode cX3_at 67 = .ok (.iadd, 1) := dk_96 (dk_at dksX3_at_2 20 rfl rfl)
theorem dX3_at_68 : decode cX3_at 68 = .ok (.iaload, 1) := dk_46 (dk_at dksX3_at_2 21 rfl rfl)
theorem dX3_at_69 : decode cX3_at 69 = .ok (.iconst 1, 1) := dk_4 (dk_at dksX3_at_2 22 rfl rfl)
theorem dX3_at_70 : decode cX3_at 70 = .ok (.isub, 1) := dk_100 (dk_at dksX3_at_2 23 rfl rfl)
theorem dX3_at_71 : decode cX3_at 71 = .ok (.ireturn, 1) := dk_172 (dk_at dksX3_at_3 0 rfl rfl)
theorem dX3_at_72 : decode cX3_at 72 = .ok (.iload_n 2, 1) := dk_28 (dk_at dksX3_at_3 1 rfl rfl)
theorem dX3_at_73 : decode cX3_at 73 = .ok (.iconst 2, 1) := dk_5 (dk_at dksX3_at_3 2 rfl rfl)
theorem dX3_at_74 : decode cX3_at 74 = .ok (.if_icmp .ne 13, 3) := dk_160 0 13 (dk_at dksX3_at_3 3 rfl rfl)
theorem dX3_at_77 : decode cX3_at 77 = .ok (.aload_n 0, 1) := dk_42 (dk_at dksX3_at_3 6 rfl rfl)
theorem dX3_at_78 : decode cX3_at 78 = .ok (.getfield 7, 3) := dk_180 0 7 (dk_at dksX3_at_3 7 rfl rfl)
theorem dX3_at_81 : decode cX3_at 81 = .ok (.bipush 64, 2) := dk_16 64 (dk_at dksX3_at_3 10 rfl rfl)
theorem dX3_at_83 : decode cX3_at 83 = .ok (.iload_n 1, 1) := dk_27 (dk_at dksX3_at_3 12 rfl rfl)
theorem dX3_at_84 : decode cX3_at 84 = .ok (.iadd, 1) := dk_96 (dk_at dksX3_at_3 13 rfl rfl)
theorem dX3_at_85 : decode cX3_at 85 = .ok (.iaload, 1) := dk_46 (dk_at dksX3_at_3 14 rfl rfl)
theorem dX3_at_86 : decode cX3_at 86 = .ok (.ireturn, 1) := dk_172 (dk_at dksX3_at_3 15 rfl rfl)
theorem dX3_at_87 : decode cX3_at 87 = .ok (.iload_n 2, 1) := dk_28 (dk_at dksX3_at_3 16 rfl rfl)
theorem dX3_at_88 : decode cX3_at 88 = .ok (.iconst 3, 1) := dk_6 (dk_at dksX3_at_3 17 rfl rfl)
theorem dX3_at_89 : decode cX3_at 89 = .ok (.if_icmp .ne 14, 3) := dk_160 0 14 (dk_at dksX3_at_3 18 rfl rfl)
theorem dX3_at_92 : decode cX3_at 92 = .ok (.aload_n 0, 1) := dk_42 (dk_at dksX3_at_3 21 rfl rfl)
theorem dX3_at_93 : decode cX3_at 93 = .ok (.getfield 7, 3) := dk_180 0 7 (dk_at dksX3_at_4 0 rfl rfl)
theorem dX3_at_96 : decode cX3_at 96 = .ok (.sipush 128, 3) := dk_17 0 128 (dk_at dksX3_at_4 3 rfl rfl)
theorem dX3_at_99 : decode cX3_at 99 = .ok (.iload_n 1, 1) := dk_27 (dk_at dksX3_at_4 6 rfl rfl)
theorem dX3_at_100 : decode cX3_at 100 = .ok (.iadd, 1) := dk_96 (dk_at dksX3_at_4 7 rfl rfl)
theorem dX3_at_101 : decode cX3_at 101 = .ok (.iaload, 1) := dk_46 (dk_at dksX3_at_4 8 rfl rfl)
theorem dX3_at_102 : decode cX3_at 102 = .ok (.ireturn, 1) := dk_172 (dk_at dksX3_at_4 9 rfl rfl)
theorem dX3_at_103 : decode cX3_at 103 = .ok (.iload_n 2, 1) := dk_28 (dk_at dksX3_at_4 10 rfl rfl)
theorem dX3_at_104 : decode cX3_at 104 = .ok (.iconst 4, 1) := dk_7 (dk_at dksX3_at_4 11 rfl rfl)
theorem dX3_at_105 : decode cX3_at 105 = .ok (.if_icmp .ne 14, 3) := dk_160 0 14 (dk_at dksX3_at_4 12 rfl rfl)
theorem dX3_at_108 : decode cX3_at 108 = .ok (.aload_n 0, 1) := dk_42 (dk_at dksX3_at_4 15 rfl rfl)
theorem dX3_at_109 : decode cX3_at 109 = .ok (.getfield 7, 3) := dk_180 0 7 (dk_at dksX3_at_4 16 rfl rfl)
theorem dX3_at_112 : decode cX3_at 112 = .ok (.sipush 192, 3) := dk_17 0 192 (dk_at dksX3_at_4 19 rfl rfl)
theorem dX3_at_115 : decode cX3_at 115 = .ok (.iload_n 1, 1) := dk_27 (dk_at dksX3_at_4 22 rfl rfl)
theorem dX3_at_116 : decode cX3_at 116 = .ok (.iadd, 1) := dk_96 (dk_at dksX3_at_4 23 rfl rfl)
theorem dX3_at_117 : decode cX3_at 117 = .ok (.iaload, 1) := dk_46 (dk_at dksX3_at_5 0 rfl rfl)
theorem dX3_at_118 : decode cX3_at 118 = .ok (.ireturn, 1) := dk_172 (dk_at dksX3_at_5 1 rfl rfl)
theorem dX3_at_119 : decode cX3_at 119 = .ok (.aload_n 0, 1) := dk_42 (dk_at dksX3_at_5 2 rfl rfl)
theorem dX3_at_120 : decode cX3_at 120 = .ok (.invokevirtual 271, 3) := dk_182 1 15 (dk_at dksX3_at_5 3 rfl rfl)
theorem dX3_at_123 : decode cX3_at 123 = .ok (.aload_n 0, 1) := dk_42 (dk_at dksX3_at_5 6 rfl rfl)
theorem dX3_at_124 : decode cX3_at 124 = .ok (.iload_n 1, 1) := dk_27 (dk_at dksX3_at_5 7 rfl rfl)
theorem dX3_at_125 : decode cX3_at 125 = .ok (.iconst 0, 1) := dk_3 (dk_at dksX3_at_5 8 rfl rfl)
theorem dX3_at_126 : decode cX3_at 126 = .ok (.aload_n 0, 1) := dk_42 (dk_at dksX3_at_5 9 rfl rfl)
theorem dX3_at_127 : decode cX3_at 127 = .ok (.getfield 120, 3) := dk_180 0 120 (dk_at dksX3_at_5 10 rfl rfl)
theorem dX3_at_130 : decode cX3_at 130 = .ok (.invokevirtual 262, 3) := dk_182 1 6 (dk_at dksX3_at_5 13 rfl rfl)
theorem dX3_at_133 : decode cX3_at 133 = .ok (.ireturn, 1) := dk_172 (dk_at dksX3_at_5 16 rfl rfl)
abbrev cX3_of : ByteArray := prog_14_method_62_code
def yX3_of : MethodName := ⟨RX3, "of", "(II)I"⟩
def dkwX3_of_4 : List UInt8 := [16, 10, 100, 46, 167, 0, 4, 2, 172]
abbrev dktX3_of_4 : List UInt8 := dkwX3_of_4 ++ []
def dkwX3_of_3 : List UInt8 := [180, 0, 97, 96, 182, 0, 107, 153, 0, 24, 42, 180, 0, 7, 17, 1, 18, 16, 12, 27, 104, 96, 28, 96]
abbrev dktX3_of_3 : List UInt8 := dkwX3_of_3 ++ dktX3_of_4
def dkwX3_of_2 : List UInt8 := [5, 160, 0, 14, 42, 180, 0, 7, 17, 1, 12, 27, 96, 46, 172, 42, 28, 16, 10, 16, 9, 42]
abbrev dktX3_of_2 : List UInt8 := dkwX3_of_2 ++ dktX3_of_3
def dkwX3_of_1 : List UInt8 := [17, 1, 0, 27, 96, 46, 172, 28, 4, 160, 0, 14, 42, 180, 0, 7, 17, 1, 6, 27, 96, 46, 172, 28]
abbrev dktX3_of_1 : List UInt8 := dkwX3_of_1 ++ dktX3_of_2
def dkwX3_of_0 : List UInt8 := [42, 3, 181, 0, 86, 42, 27, 182, 0, 133, 154, 0, 5, 2, 172, 28, 154, 0, 14, 42, 180, 0, 7]
abbrev dktX3_of_0 : List UInt8 := dkwX3_of_0 ++ dktX3_of_1
theorem dksX3_of_0 : cX3_of.data.toList.drop 0 = dktX3_of_0 := by decide +kernel
theorem dksX3_of_1 : cX3_of.data.toList.drop 23 = dktX3_of_1 := dk_seg dksX3_of_0 23 rfl rfl
theorem dksX3_of_2 : cX3_of.data.toList.drop 47 = dktX3_of_2 := dk_seg dksX3_of_1 24 rfl rfl
theorem dksX3_of_3 : cX3_of.data.toList.drop 69 = dktX3_of_3 := dk_seg dksX3_of_2 22 rfl rfl
theorem dksX3_of_4 : cX3_of.data.toList.drop 93 = dktX3_of_4 := dk_seg dksX3_of_3 24 rfl rfl
theorem dX3_of_0 : decode cX3_of 0 = .ok (.aload_n 0, 1) := dk_42 (dk_at dksX3_of_0 0 rfl rfl)
theorem dX3_of_1 : decode cX3_of 1 = .ok (.iconst 0, 1) := dk_3 (dk_at dksX3_of_0 1 rfl rfl)
theorem dX3_of_2 : decode cX3_of 2 = .ok (.putfield 86, 3) := dk_181 0 86 (dk_at dksX3_of_0 2 rfl rfl)
theorem dX3_of_5 : decode cX3_of 5 = .ok (.aload_n 0, 1) := dk_42 (dk_at dksX3_of_0 5 rfl rfl)
theorem dX3_of_6 : decode cX3_of 6 = .ok (.iload_n 1, 1) := dk_27 (dk_at dksX3_of_0 6 rfl rfl)
theorem dX3_of_7 : decode cX3_of 7 = .ok (.invokevirtual 133, 3) := dk_182 0 133 (dk_at dksX3_of_0 7 rfl rfl)
theorem dX3_of_10 : decode cX3_of 10 = .ok (.ifCond .ne 5, 3) := dk_154 0 5 (dk_at dksX3_of_0 10 rfl rfl)
theorem dX3_of_13 : decode cX3_of 13 = .ok (.iconst (-1), 1) := dk_2 (dk_at dksX3_of_0 13 rfl rfl)
theorem dX3_of_14 : decode cX3_of 14 = .ok (.ireturn, 1) := dk_172 (dk_at dksX3_of_0 14 rfl rfl)
theorem dX3_of_15 : decode cX3_of 15 = .ok (.iload_n 2, 1) := dk_28 (dk_at dksX3_of_0 15 rfl rfl)
theorem dX3_of_16 : decode cX3_of 16 = .ok (.ifCond .ne 14, 3) := dk_154 0 14 (dk_at dksX3_of_0 16 rfl rfl)
theorem dX3_of_19 : decode cX3_of 19 = .ok (.aload_n 0, 1) := dk_42 (dk_at dksX3_of_0 19 rfl rfl)
theorem dX3_of_20 : decode cX3_of 20 = .ok (.getfield 7, 3) := dk_180 0 7 (dk_at dksX3_of_0 20 rfl rfl)
theorem dX3_of_23 : decode cX3_of 23 = .ok (.sipush 256, 3) := dk_17 1 0 (dk_at dksX3_of_1 0 rfl rfl)
theorem dX3_of_26 : decode cX3_of 26 = .ok (.iload_n 1, 1) := dk_27 (dk_at dksX3_of_1 3 rfl rfl)
theorem dX3_of_27 : decode cX3_of 27 = .ok (.iadd, 1) := dk_96 (dk_at dksX3_of_1 4 rfl rfl)
theorem dX3_of_28 : decode cX3_of 28 = .ok (.iaload, 1) := dk_46 (dk_at dksX3_of_1 5 rfl rfl)
theorem dX3_of_29 : decode cX3_of 29 = .ok (.ireturn, 1) := dk_172 (dk_at dksX3_of_1 6 rfl rfl)
theorem dX3_of_30 : decode cX3_of 30 = .ok (.iload_n 2, 1) := dk_28 (dk_at dksX3_of_1 7 rfl rfl)
theorem dX3_of_31 : decode cX3_of 31 = .ok (.iconst 1, 1) := dk_4 (dk_at dksX3_of_1 8 rfl rfl)
theorem dX3_of_32 : decode cX3_of 32 = .ok (.if_icmp .ne 14, 3) := dk_160 0 14 (dk_at dksX3_of_1 9 rfl rfl)
theorem dX3_of_35 : decode cX3_of 35 = .ok (.aload_n 0, 1) := dk_42 (dk_at dksX3_of_1 12 rfl rfl)
theorem dX3_of_36 : decode cX3_of 36 = .ok (.getfield 7, 3) := dk_180 0 7 (dk_at dksX3_of_1 13 rfl rfl)
theorem dX3_of_39 : decode cX3_of 39 = .ok (.sipush 262, 3) := dk_17 1 6 (dk_at dksX3_of_1 16 rfl rfl)
theorem dX3_of_42 : decode cX3_of 42 = .ok (.iload_n 1, 1) := dk_27 (dk_at dksX3_of_1 19 rfl rfl)
theorem dX3_of_43 : decode cX3_of 43 = .ok (.iadd, 1) := dk_96 (dk_at dksX3_of_1 20 rfl rfl)
theorem dX3_of_44 : decode cX3_of 44 = .ok (.iaload, 1) := dk_46 (dk_at dksX3_of_1 21 rfl rfl)
theorem dX3_of_45 : decode cX3_of 45 = .ok (.ireturn, 1) := dk_172 (dk_at dksX3_of_1 22 rfl rfl)
theorem dX3_of_46 : decode cX3_of 46 = .ok (.iload_n 2, 1) := dk_28 (dk_at dksX3_of_1 23 rfl rfl)
theorem dX3_of_47 : decode cX3_of 47 = .ok (.iconst 2, 1) := dk_5 (dk_at dksX3_of_2 0 rfl rfl)
theorem dX3_of_48 : decode cX3_of 48 = .ok (.if_icmp .ne 14, 3) := dk_160 0 14 (dk_at dksX3_of_2 1 rfl rfl)
theorem dX3_of_51 : decode cX3_of 51 = .ok (.aload_n 0, 1) := dk_42 (dk_at dksX3_of_2 4 rfl rfl)
theorem dX3_of_52 : decode cX3_of 52 = .ok (.getfield 7, 3) := dk_180 0 7 (dk_at dksX3_of_2 5 rfl rfl)
theorem dX3_of_55 : decode cX3_of 55 = .ok (.sipush 268, 3) := dk_17 1 12 (dk_at dksX3_of_2 8 rfl rfl)
theorem dX3_of_58 : decode cX3_of 58 = .ok (.iload_n 1, 1) := dk_27 (dk_at dksX3_of_2 11 rfl rfl)
theorem dX3_of_59 : decode cX3_of 59 = .ok (.iadd, 1) := dk_96 (dk_at dksX3_of_2 12 rfl rfl)
theorem dX3_of_60 : decode cX3_of 60 = .ok (.iaload, 1) := dk_46 (dk_at dksX3_of_2 13 rfl rfl)
theorem dX3_of_61 : decode cX3_of 61 = .ok (.ireturn, 1) := dk_172 (dk_at dksX3_of_2 14 rfl rfl)
theorem dX3_of_62 : decode cX3_of 62 = .ok (.aload_n 0, 1) := dk_42 (dk_at dksX3_of_2 15 rfl rfl)
theorem dX3_of_63 : decode cX3_of 63 = .ok (.iload_n 2, 1) := dk_28 (dk_at dksX3_of_2 16 rfl rfl)
theorem dX3_of_64 : decode cX3_of 64 = .ok (.bipush 10, 2) := dk_16 10 (dk_at dksX3_of_2 17 rfl rfl)
theorem dX3_of_66 : decode cX3_of 66 = .ok (.bipush 9, 2) := dk_16 9 (dk_at dksX3_of_2 19 rfl rfl)
theorem dX3_of_68 : decode cX3_of 68 = .ok (.aload_n 0, 1) := dk_42 (dk_at dksX3_of_2 21 rfl rfl)
theorem dX3_of_69 : decode cX3_of 69 = .ok (.getfield 97, 3) := dk_180 0 97 (dk_at dksX3_of_3 0 rfl rfl)
theorem dX3_of_72 : decode cX3_of 72 = .ok (.iadd, 1) := dk_96 (dk_at dksX3_of_3 3 rfl rfl)
theorem dX3_of_73 : decode cX3_of 73 = .ok (.invokevirtual 107, 3) := dk_182 0 107 (dk_at dksX3_of_3 4 rfl rfl)
theorem dX3_of_76 : decode cX3_of 76 = .ok (.ifCond .eq 24, 3) := dk_153 0 24 (dk_at dksX3_of_3 7 rfl rfl)
theorem dX3_of_79 : decode cX3_of 79 = .ok (.aload_n 0, 1) := dk_42 (dk_at dksX3_of_3 10 rfl rfl)
theorem dX3_of_80 : decode cX3_of 80 = .ok (.getfield 7, 3) := dk_180 0 7 (dk_at dksX3_of_3 11 rfl rfl)
theorem dX3_of_83 : decode cX3_of 83 = .ok (.sipush 274, 3) := dk_17 1 18 (dk_at dksX3_of_3 14 rfl rfl)
theorem dX3_of_86 : decode cX3_of 86 = .ok (.bipush 12, 2) := dk_16 12 (dk_at dksX3_of_3 17 rfl rfl)
theorem dX3_of_88 : decode cX3_of 88 = .ok (.iload_n 1, 1) := dk_27 (dk_at dksX3_of_3 19 rfl rfl)
theorem dX3_of_89 : decode cX3_of 89 = .ok (.imul, 1) := dk_104 (dk_at dksX3_of_3 20 rfl rfl)
theorem dX3_of_90 : decode cX3_of 90 = .ok (.iadd, 1) := dk_96 (dk_at dksX3_of_3 21 rfl rfl)
theorem dX3_of_91 : decode cX3_of 91 = .ok (.iload_n 2, 1) := dk_28 (dk_at dksX3_of_3 22 rfl rfl)
theorem dX3_of_92 : decode cX3_of 92 = .ok (.iadd, 1) := dk_96 (dk_at dksX3_of_3 23 rfl rfl)
theorem dX3_of_93 : decode cX3_of 93 = .ok (.bipush 10, 2) := dk_16 10 (dk_at dksX3_of_4 0 rfl rfl)
theorem dX3_of_95 : decode cX3_of 95 = .ok (.isub, 1) := dk_100 (dk_at dksX3_of_4 2 rfl rfl)
theorem dX3_of_96 : decode cX3_of 96 = .ok (.iaload, 1) := dk_46 (dk_at dksX3_of_4 3 rfl rfl)
theorem dX3_of_97 : decode cX3_of 97 = .ok (.goto 4, 3) := dk_167 0 4 (dk_at dksX3_of_4 4 rfl rfl)
theorem dX3_of_100 : decode cX3_of 100 = .ok (.iconst (-1), 1) := dk_2 (dk_at dksX3_of_4 7 rfl rfl)
theorem dX3_of_101 : decode cX3_of 101 = .ok (.ireturn, 1) := dk_172 (dk_at dksX3_of_4 8 rfl rfl)
abbrev cX3_kind : ByteArray := prog_14_method_63_code
def yX3_kind : MethodName := ⟨RX3, "kind", "(II)I"⟩
def dkwX3_kind_2 : List UInt8 := [180, 0, 29, 27, 46, 167, 0, 9, 42, 180, 0, 32, 27, 46, 172]
abbrev dktX3_kind_2 : List UInt8 := dkwX3_kind_2 ++ []
def dkwX3_kind_1 : List UInt8 := [16, 254, 172, 28, 154, 0, 12, 42, 180, 0, 26, 27, 46, 167, 0, 23, 28, 4, 160, 0, 12, 42]
abbrev dktX3_kind_1 : List UInt8 := dkwX3_kind_1 ++ dktX3_kind_2
def dkwX3_kind_0 : List UInt8 := [42, 3, 181, 0, 86, 42, 27, 182, 0, 139, 153, 0, 13, 42, 28, 3, 5, 182, 0, 107, 154, 0, 6]
abbrev dktX3_kind_0 : List UInt8 := dkwX3_kind_0 ++ dktX3_kind_1
theorem dksX3_kind_0 : cX3_kind.data.toList.drop 0 = dktX3_kind_0 := by decide +kernel
theorem dksX3_kind_1 : cX3_kind.data.toList.drop 23 = dktX3_kind_1 := dk_seg dksX3_kind_0 23 rfl rfl
theorem dksX3_kind_2 : cX3_kind.data.toList.drop 45 = dktX3_kind_2 := dk_seg dksX3_kind_1 22 rfl rfl
theorem dX3_kind_0 : decode cX3_kind 0 = .ok (.aload_n 0, 1) := dk_42 (dk_at dksX3_kind_0 0 rfl rfl)
theorem dX3_kind_1 : decode cX3_kind 1 = .ok (.iconst 0, 1) := dk_3 (dk_at dksX3_kind_0 1 rfl rfl)
theorem dX3_kind_2 : decode cX3_kind 2 = .ok (.putfield 86, 3) := dk_181 0 86 (dk_at dksX3_kind_0 2 rfl rfl)
theorem dX3_kind_5 : decode cX3_kind 5 = .ok (.aload_n 0, 1) := dk_42 (dk_at dksX3_kind_0 5 rfl rfl)
theorem dX3_kind_6 : decode cX3_kind 6 = .ok (.iload_n 1, 1) := dk_27 (dk_at dksX3_kind_0 6 rfl rfl)
theorem dX3_kind_7 : decode cX3_kind 7 = .ok (.invokevirtual 139, 3) := dk_182 0 139 (dk_at dksX3_kind_0 7 rfl rfl)
theorem dX3_kind_10 : decode cX3_kind 10 = .ok (.ifCond .eq 13, 3) := dk_153 0 13 (dk_at dksX3_kind_0 10 rfl rfl)
theorem dX3_kind_13 : decode cX3_kind 13 = .ok (.aload_n 0, 1) := dk_42 (dk_at dksX3_kind_0 13 rfl rfl)
theorem dX3_kind_14 : decode cX3_kind 14 = .ok (.iload_n 2, 1) := dk_28 (dk_at dksX3_kind_0 14 rfl rfl)
theorem dX3_kind_15 : decode cX3_kind 15 = .ok (.iconst 0, 1) := dk_3 (dk_at dksX3_kind_0 15 rfl rfl)
theorem dX3_kind_16 : decode cX3_kind 16 = .ok (.iconst 2, 1) := dk_5 (dk_at dksX3_kind_0 16 rfl rfl)
theorem dX3_kind_17 : decode cX3_kind 17 = .ok (.invokevirtual 107, 3) := dk_182 0 107 (dk_at dksX3_kind_0 17 rfl rfl)
theorem dX3_kind_20 : decode cX3_kind 20 = .ok (.ifCond .ne 6, 3) := dk_154 0 6 (dk_at dksX3_kind_0 20 rfl rfl)
theorem dX3_kind_23 : decode cX3_kind 23 = .ok (.bipush (-2), 2) := dk_16 254 (dk_at dksX3_kind_1 0 rfl rfl)
theorem dX3_kind_25 : decode cX3_kind 25 = .ok (.ireturn, 1) := dk_172 (dk_at dksX3_kind_1 2 rfl rfl)
theorem dX3_kind_26 : decode cX3_kind 26 = .ok (.iload_n 2, 1) := dk_28 (dk_at dksX3_kind_1 3 rfl rfl)
theorem dX3_kind_27 : decode cX3_kind 27 = .ok (.ifCond .ne 12, 3) := dk_154 0 12 (dk_at dksX3_kind_1 4 rfl rfl)
theorem dX3_kind_30 : decode cX3_kind 30 = .ok (.aload_n 0, 1) := dk_42 (dk_at dksX3_kind_1 7 rfl rfl)
theorem dX3_kind_31 : decode cX3_kind 31 = .ok (.getfield 26, 3) := dk_180 0 26 (dk_at dksX3_kind_1 8 rfl rfl)
theorem dX3_kind_34 : decode cX3_kind 34 = .ok (.iload_n 1, 1) := dk_27 (dk_at dksX3_kind_1 11 rfl rfl)
theorem dX3_kind_35 : decode cX3_kind 35 = .ok (.iaload, 1) := dk_46 (dk_at dksX3_kind_1 12 rfl rfl)
theorem dX3_kind_36 : decode cX3_kind 36 = .ok (.goto 23, 3) := dk_167 0 23 (dk_at dksX3_kind_1 13 rfl rfl)
theorem dX3_kind_39 : decode cX3_kind 39 = .ok (.iload_n 2, 1) := dk_28 (dk_at dksX3_kind_1 16 rfl rfl)
theorem dX3_kind_40 : decode cX3_kind 40 = .ok (.iconst 1, 1) := dk_4 (dk_at dksX3_kind_1 17 rfl rfl)
theorem dX3_kind_41 : decode cX3_kind 41 = .ok (.if_icmp .ne 12, 3) := dk_160 0 12 (dk_at dksX3_kind_1 18 rfl rfl)
theorem dX3_kind_44 : decode cX3_kind 44 = .ok (.aload_n 0, 1) := dk_42 (dk_at dksX3_kind_1 21 rfl rfl)
theorem dX3_kind_45 : decode cX3_kind 45 = .ok (.getfield 29, 3) := dk_180 0 29 (dk_at dksX3_kind_2 0 rfl rfl)
theorem dX3_kind_48 : decode cX3_kind 48 = .ok (.iload_n 1, 1) := dk_27 (dk_at dksX3_kind_2 3 rfl rfl)
theorem dX3_kind_49 : decode cX3_kind 49 = .ok (.iaload, 1) := dk_46 (dk_at dksX3_kind_2 4 rfl rfl)
theorem dX3_kind_50 : decode cX3_kind 50 = .ok (.goto 9, 3) := dk_167 0 9 (dk_at dksX3_kind_2 5 rfl rfl)
theorem dX3_kind_53 : decode cX3_kind 53 = .ok (.aload_n 0, 1) := dk_42 (dk_at dksX3_kind_2 8 rfl rfl)
theorem dX3_kind_54 : decode cX3_kind 54 = .ok (.getfield 32, 3) := dk_180 0 32 (dk_at dksX3_kind_2 9 rfl rfl)
theorem dX3_kind_57 : decode cX3_kind 57 = .ok (.iload_n 1, 1) := dk_27 (dk_at dksX3_kind_2 12 rfl rfl)
theorem dX3_kind_58 : decode cX3_kind 58 = .ok (.iaload, 1) := dk_46 (dk_at dksX3_kind_2 13 rfl rfl)
theorem dX3_kind_59 : decode cX3_kind 59 = .ok (.ireturn, 1) := dk_172 (dk_at dksX3_kind_2 14 rfl rfl)
abbrev cX3_book : ByteArray := prog_14_method_64_code
def yX3_book : MethodName := ⟨RX3, "book", "(II)I"⟩
def dkwX3_book_2 : List UInt8 := [172]
abbrev dktX3_book_2 : List UInt8 := dkwX3_book_2 ++ []
def dkwX3_book_1 : List UInt8 := [42, 28, 3, 6, 182, 0, 107, 153, 0, 16, 42, 180, 0, 35, 7, 27, 104, 28, 96, 46, 167, 0, 4, 2]
abbrev dktX3_book_1 : List UInt8 := dkwX3_book_1 ++ dktX3_book_2
def dkwX3_book_0 : List UInt8 := [42, 3, 181, 0, 86, 42, 27, 3, 42, 180, 0, 7, 17, 1, 91, 46, 4, 100, 182, 0, 107, 153, 0, 26]
abbrev dktX3_book_0 : List UInt8 := dkwX3_book_0 ++ dktX3_book_1
theorem dksX3_book_0 : cX3_book.data.toList.drop 0 = dktX3_book_0 := by decide +kernel
theorem dksX3_book_1 : cX3_book.data.toList.drop 24 = dktX3_book_1 := dk_seg dksX3_book_0 24 rfl rfl
theorem dksX3_book_2 : cX3_book.data.toList.drop 48 = dktX3_book_2 := dk_seg dksX3_book_1 24 rfl rfl
theorem dX3_book_0 : decode cX3_book 0 = .ok (.aload_n 0, 1) := dk_42 (dk_at dksX3_book_0 0 rfl rfl)
theorem dX3_book_1 : decode cX3_book 1 = .ok (.iconst 0, 1) := dk_3 (dk_at dksX3_book_0 1 rfl rfl)
theorem dX3_book_2 : decode cX3_book 2 = .ok (.putfield 86, 3) := dk_181 0 86 (dk_at dksX3_book_0 2 rfl rfl)
theorem dX3_book_5 : decode cX3_book 5 = .ok (.aload_n 0, 1) := dk_42 (dk_at dksX3_book_0 5 rfl rfl)
theorem dX3_book_6 : decode cX3_book 6 = .ok (.iload_n 1, 1) := dk_27 (dk_at dksX3_book_0 6 rfl rfl)
theorem dX3_book_7 : decode cX3_book 7 = .ok (.iconst 0, 1) := dk_3 (dk_at dksX3_book_0 7 rfl rfl)
theorem dX3_book_8 : decode cX3_book 8 = .ok (.aload_n 0, 1) := dk_42 (dk_at dksX3_book_0 8 rfl rfl)
theorem dX3_book_9 : decode cX3_book 9 = .ok (.getfield 7, 3) := dk_180 0 7 (dk_at dksX3_book_0 9 rfl rfl)
theorem dX3_book_12 : decode cX3_book 12 = .ok (.sipush 347, 3) := dk_17 1 91 (dk_at dksX3_book_0 12 rfl rfl)
theorem dX3_book_15 : decode cX3_book 15 = .ok (.iaload, 1) := dk_46 (dk_at dksX3_book_0 15 rfl rfl)
theorem dX3_book_16 : decode cX3_book 16 = .ok (.iconst 1, 1) := dk_4 (dk_at dksX3_book_0 16 rfl rfl)
theorem dX3_book_17 : decode cX3_book 17 = .ok (.isub, 1) := dk_100 (dk_at dksX3_book_0 17 rfl rfl)
theorem dX3_book_18 : decode cX3_book 18 = .ok (.invokevirtual 107, 3) := dk_182 0 107 (dk_at dksX3_book_0 18 rfl rfl)
theorem dX3_book_21 : decode cX3_book 21 = .ok (.ifCond .eq 26, 3) := dk_153 0 26 (dk_at dksX3_book_0 21 rfl rfl)
theorem dX3_book_24 : decode cX3_book 24 = .ok (.aload_n 0, 1) := dk_42 (dk_at dksX3_book_1 0 rfl rfl)
theorem dX3_book_25 : decode cX3_book 25 = .ok (.iload_n 2, 1) := dk_28 (dk_at dksX3_book_1 1 rfl rfl)
theorem dX3_book_26 : decode cX3_book 26 = .ok (.iconst 0, 1) := dk_3 (dk_at dksX3_book_1 2 rfl rfl)
theorem dX3_book_27 : decode cX3_book 27 = .ok (.iconst 3, 1) := dk_6 (dk_at dksX3_book_1 3 rfl rfl)
theorem dX3_book_28 : decode cX3_book 28 = .ok (.invokevirtual 107, 3) := dk_182 0 107 (dk_at dksX3_book_1 4 rfl rfl)
theorem dX3_book_31 : decode cX3_book 31 = .ok (.ifCond .eq 16, 3) := dk_153 0 16 (dk_at dksX3_book_1 7 rfl rfl)
theorem dX3_book_34 : decode cX3_book 34 = .ok (.aload_n 0, 1) := dk_42 (dk_at dksX3_book_1 10 rfl rfl)
theorem dX3_book_35 : decode cX3_book 35 = .ok (.getfield 35, 3) := dk_180 0 35 (dk_at dksX3_book_1 11 rfl rfl)
theorem dX3_book_38 : decode cX3_book 38 = .ok (.iconst 4, 1) := dk_7 (dk_at dksX3_book_1 14 rfl rfl)
theorem dX3_book_39 : decode cX3_book 39 = .ok (.iload_n 1, 1) := dk_27 (dk_at dksX3_book_1 15 rfl rfl)
theorem dX3_book_40 : decode cX3_book 40 = .ok (.imul, 1) := dk_104 (dk_at dksX3_book_1 16 rfl rfl)
theorem dX3_book_41 : decode cX3_book 41 = .ok (.iload_n 2, 1) := dk_28 (dk_at dksX3_book_1 17 rfl rfl)
theorem dX3_book_42 : decode cX3_book 42 = .ok (.iadd, 1) := dk_96 (dk_at dksX3_book_1 18 rfl rfl)
theorem dX3_book_43 : decode cX3_book 43 = .ok (.iaload, 1) := dk_46 (dk_at dksX3_book_1 19 rfl rfl)
theorem dX3_book_44 : decode cX3_book 44 = .ok (.goto 4, 3) := dk_167 0 4 (dk_at dksX3_book_1 20 rfl rfl)
theorem dX3_book_47 : decode cX3_book 47 = .ok (.iconst (-1), 1) := dk_2 (dk_at dksX3_book_1 23 rfl rfl)
theorem dX3_book_48 : decode cX3_book 48 = .ok (.ireturn, 1) := dk_172 (dk_at dksX3_book_2 0 rfl rfl)
abbrev cX3_soup : ByteArray := prog_14_method_67_code
def yX3_soup : MethodName := ⟨RX3, "soup", "(III)I"⟩
def dkwX3_soup_9 : List UInt8 := [21, 5, 182, 1, 32, 21, 7, 159, 0, 12, 21, 8, 4, 96, 54, 8, 167, 255, 235, 21, 8, 172]
abbrev dktX3_soup_9 : List UInt8 := dkwX3_soup_9 ++ []
def dkwX3_soup_8 : List UInt8 := [19, 1, 31, 161, 0, 5, 2, 172, 29, 154, 0, 6, 21, 7, 172, 3, 54, 8, 42, 21, 6, 21, 8]
abbrev dktX3_soup_8 : List UInt8 := dkwX3_soup_8 ++ dktX3_soup_9
def dkwX3_soup_7 : List UInt8 := [42, 180, 0, 7, 17, 1, 0, 27, 96, 46, 54, 6, 42, 21, 6, 21, 5, 182, 1, 38, 54, 7, 21, 7]
abbrev dktX3_soup_7 : List UInt8 := dkwX3_soup_7 ++ dktX3_soup_8
def dkwX3_soup_6 : List UInt8 := [182, 1, 38, 79, 132, 6, 1, 167, 255, 225, 132, 5, 1, 167, 255, 207, 4, 21, 4, 120, 4, 100, 54, 5]
abbrev dktX3_soup_6 : List UInt8 := dkwX3_soup_6 ++ dktX3_soup_7
def dkwX3_soup_5 : List UInt8 := [21, 6, 16, 64, 162, 0, 30, 42, 180, 0, 77, 16, 64, 21, 5, 104, 21, 6, 96, 42, 21, 6, 21, 5]
abbrev dktX3_soup_5 : List UInt8 := dkwX3_soup_5 ++ dktX3_soup_6
def dkwX3_soup_4 : List UInt8 := [54, 4, 132, 5, 1, 167, 255, 212, 3, 54, 5, 21, 5, 4, 21, 4, 120, 162, 0, 46, 3, 54, 6]
abbrev dktX3_soup_4 : List UInt8 := dkwX3_soup_4 ++ dktX3_soup_5
def dkwX3_soup_3 : List UInt8 := [122, 4, 126, 4, 160, 0, 8, 21, 4, 167, 0, 4, 2, 79, 21, 4, 28, 21, 5, 122, 4, 126, 96]
abbrev dktX3_soup_3 : List UInt8 := dkwX3_soup_3 ++ dktX3_soup_4
def dkwX3_soup_2 : List UInt8 := [2, 172, 3, 54, 4, 3, 54, 5, 21, 5, 16, 12, 162, 0, 43, 42, 180, 0, 80, 21, 5, 28, 21, 5]
abbrev dktX3_soup_2 : List UInt8 := dkwX3_soup_2 ++ dktX3_soup_3
def dkwX3_soup_1 : List UInt8 := [120, 162, 0, 23, 42, 28, 182, 1, 35, 16, 6, 163, 0, 13, 42, 29, 3, 4, 182, 0, 107, 154, 0, 5]
abbrev dktX3_soup_1 : List UInt8 := dkwX3_soup_1 ++ dktX3_soup_2
def dkwX3_soup_0 : List UInt8 := [42, 3, 181, 0, 86, 42, 27, 182, 0, 133, 153, 0, 38, 28, 4, 161, 0, 33, 28, 4, 42, 180, 0, 97]
abbrev dktX3_soup_0 : List UInt8 := dkwX3_soup_0 ++ dktX3_soup_1
theorem dksX3_soup_0 : cX3_soup.data.toList.drop 0 = dktX3_soup_0 := by decide +kernel
theorem dksX3_soup_1 : cX3_soup.data.toList.drop 24 = dktX3_soup_1 := dk_seg dksX3_soup_0 24 rfl rfl
theorem dksX3_soup_2 : cX3_soup.data.toList.drop 48 = dktX3_soup_2 := dk_seg dksX3_soup_1 24 rfl rfl
theorem dksX3_soup_3 : cX3_soup.data.toList.drop 72 = dktX3_soup_3 := dk_seg dksX3_soup_2 24 rfl rfl
theorem dksX3_soup_4 : cX3_soup.data.toList.drop 95 = dktX3_soup_4 := dk_seg dksX3_soup_3 23 rfl rfl
theorem dksX3_soup_5 : cX3_soup.data.toList.drop 118 = dktX3_soup_5 := dk_seg dksX3_soup_4 23 rfl rfl
theorem dksX3_soup_6 : cX3_soup.data.toList.drop 142 = dktX3_soup_6 := dk_seg dksX3_soup_5 24 rfl rfl
theorem dksX3_soup_7 : cX3_soup.data.toList.drop 166 = dktX3_soup_7 := dk_seg dksX3_soup_6 24 rfl rfl
theorem dksX3_soup_8 : cX3_soup.data.toList.drop 190 = dktX3_soup_8 := dk_seg dksX3_soup_7 24 rfl rfl
theorem dksX3_soup_9 : cX3_soup.data.toList.drop 213 = dktX3_soup_9 := dk_seg dksX3_soup_8 23 rfl rfl
theorem dX3_soup_0 : decode cX3_soup 0 = .ok (.aload_n 0, 1) := dk_42 (dk_at dksX3_soup_0 0 rfl rfl)
theorem dX3_soup_1 : decode cX3_soup 1 = .ok (.iconst 0, 1) := dk_3 (dk_at dksX3_soup_0 1 rfl rfl)
theorem dX3_soup_2 : decode cX3_soup 2 = .ok (.putfield 86, 3) := dk_181 0 86 (dk_at dksX3_soup_0 2 rfl rfl)
theorem dX3_soup_5 : decode cX3_soup 5 = .ok (.aload_n 0, 1) := dk_42 (dk_at dksX3_soup_0 5 rfl rfl)
theorem dX3_soup_6 : decode cX3_soup 6 = .ok (.iload_n 1, 1) := dk_27 (dk_at dksX3_soup_0 6 rfl rfl)
theorem dX3_soup_7 : decode cX3_soup 7 = .ok (.invokevirtual 133, 3) := dk_182 0 133 (dk_at dksX3_soup_0 7 rfl rfl)
theorem dX3_soup_10 : decode cX3_soup 10 = .ok (.ifCond .eq 38, 3) := dk_153 0 38 (dk_at dksX3_soup_0 10 rfl rfl)
theorem dX3_soup_13 : decode cX3_soup 13 = .ok (.iload_n 2, 1) := dk_28 (dk_at dksX3_soup_0 13 rfl rfl)
theorem dX3_soup_14 : decode cX3_soup 14 = .ok (.iconst 1, 1) := dk_4 (dk_at dksX3_soup_0 14 rfl rfl)
theorem dX3_soup_15 : decode cX3_soup 15 = .ok (.if_icmp .lt 33, 3) := dk_161 0 33 (dk_at dksX3_soup_0 15 rfl rfl)
theorem dX3_soup_18 : decode cX3_soup 18 = .ok (.iload_n 2, 1) := dk_28 (dk_at dksX3_soup_0 18 rfl rfl)
theorem dX3_soup_19 : decode cX3_soup 19 = .ok (.iconst 1, 1) := dk_4 (dk_at dksX3_soup_0 19 rfl rfl)
theorem dX3_soup_20 : decode cX3_soup 20 = .ok (.aload_n 0, 1) := dk_42 (dk_at dksX3_soup_0 20 rfl rfl)
theorem dX3_soup_21 : decode cX3_soup 21 = .ok (.getfield 97, 3) := dk_180 0 97 (dk_at dksX3_soup_0 21 rfl rfl)
theorem dX3_soup_24 : decode cX3_soup 24 = .ok (.ishl, 1) := dk_120 (dk_at dksX3_soup_1 0 rfl rfl)
theorem dX3_soup_25 : decode cX3_soup 25 = .ok (.if_icmp .ge 23, 3) := dk_162 0 23 (dk_at dksX3_soup_1 1 rfl rfl)
theorem dX3_soup_28 : decode cX3_soup 28 = .ok (.aload_n 0, 1) := dk_42 (dk_at dksX3_soup_1 4 rfl rfl)
theorem dX3_soup_29 : decode cX3_soup 29 = .ok (.iload_n 2, 1) := dk_28 (dk_at dksX3_soup_1 5 rfl rfl)
theorem dX3_soup_30 : decode cX3_soup 30 = .ok (.invokevirtual 291, 3) := dk_182 1 35 (dk_at dksX3_soup_1 6 rfl rfl)
theorem dX3_soup_33 : decode cX3_soup 33 = .ok (.bipush 6, 2) := dk_16 6 (dk_at dksX3_soup_1 9 rfl rfl)
theorem dX3_soup_35 : decode cX3_soup 35 = .ok (.if_icmp .gt 13, 3) := dk_163 0 13 (dk_at dksX3_soup_1 11 rfl rfl)
theorem dX3_soup_38 : decode cX3_soup 38 = .ok (.aload_n 0, 1) := dk_42 (dk_at dksX3_soup_1 14 rfl rfl)
theorem dX3_soup_39 : decode cX3_soup 39 = .ok (.iload_n 3, 1) := dk_29 (dk_at dksX3_soup_1 15 rfl rfl)
theorem dX3_soup_40 : decode cX3_soup 40 = .ok (.iconst 0, 1) := dk_3 (dk_at dksX3_soup_1 16 rfl rfl)
theorem dX3_soup_41 : decode cX3_soup 41 = .ok (.iconst 1, 1) := dk_4 (dk_at dksX3_soup_1 17 rfl rfl)
theorem dX3_soup_42 : decode cX3_soup 42 = .ok (.invokevirtual 107, 3) := dk_182 0 107 (dk_at dksX3_soup_1 18 rfl rfl)
theorem dX3_soup_45 : decode cX3_soup 45 = .ok (.ifCond .ne 5, 3) := dk_154 0 5 (dk_at dksX3_soup_1 21 rfl rfl)
theorem dX3_soup_48 : decode cX3_soup 48 = .ok (.iconst (-1), 1) := dk_2 (dk_at dksX3_soup_2 0 rfl rfl)
theorem dX3_soup_49 : decode cX3_soup 49 = .ok (.ireturn, 1) := dk_172 (dk_at dksX3_soup_2 1 rfl rfl)
theorem dX3_soup_50 : decode cX3_soup 50 = .ok (.iconst 0, 1) := dk_3 (dk_at dksX3_soup_2 2 rfl rfl)
theorem dX3_soup_51 : decode cX3_soup 51 = .ok (.istore 4, 2) := dk_54 4 (dk_at dksX3_soup_2 3 rfl rfl)
theorem dX3_soup_53 : decode cX3_soup 53 = .ok (.iconst 0, 1) := dk_3 (dk_at dksX3_soup_2 5 rfl rfl)
theorem dX3_soup_54 : decode cX3_soup 54 = .ok (.istore 5, 2) := dk_54 5 (dk_at dksX3_soup_2 6 rfl rfl)
theorem dX3_soup_56 : decode cX3_soup 56 = .ok (.iload 5, 2) := dk_21 5 (dk_at dksX3_soup_2 8 rfl rfl)
theorem dX3_soup_58 : decode cX3_soup 58 = .ok (.bipush 12, 2) := dk_16 12 (dk_at dksX3_soup_2 10 rfl rfl)
theorem dX3_soup_60 : decode cX3_soup 60 = .ok (.if_icmp .ge 43, 3) := dk_162 0 43 (dk_at dksX3_soup_2 12 rfl rfl)
theorem dX3_soup_63 : decode cX3_soup 63 = .ok (.aload_n 0, 1) := dk_42 (dk_at dksX3_soup_2 15 rfl rfl)
theorem dX3_soup_64 : decode cX3_soup 64 = .ok (.getfield 80, 3) := dk_180 0 80 (dk_at dksX3_soup_2 16 rfl rfl)
theorem dX3_soup_67 : decode cX3_soup 67 = .ok (.iload 5, 2) := dk_21 5 (dk_at dksX3_soup_2 19 rfl rfl)
theorem dX3_soup_69 : decode cX3_soup 69 = .ok (.iload_n 2, 1) := dk_28 (dk_at dksX3_soup_2 21 rfl rfl)
theorem dX3_soup_70 : decode cX3_soup 70 = .ok (.iload 5, 2) := dk_21 5 (dk_at dksX3_soup_2 22 rfl rfl)
theorem dX3_soup_72 : decode cX3_soup 72 = .ok (.ishr, 1) := dk_122 (dk_at dksX3_soup_3 0 rfl rfl)
theorem dX3_soup_73 : decode cX3_soup 73 = .ok (.iconst 1, 1) := dk_4 (dk_at dksX3_soup_3 1 rfl rfl)
theorem dX3_soup_74 : decode cX3_soup 74 = .ok (.iand, 1) := dk_126 (dk_at dksX3_soup_3 2 rfl rfl)
theorem dX3_soup_75 : decode cX3_soup 75 = .ok (.iconst 1, 1) := dk_4 (dk_at dksX3_soup_3 3 rfl rfl)
theorem dX3_soup_76 : decode cX3_soup 76 = .ok (.if_icmp .ne 8, 3) := dk_160 0 8 (dk_at dksX3_soup_3 4 rfl rfl)
theorem dX3_soup_79 : decode cX3_soup 79 = .ok (.iload 4, 2) := dk_21 4 (dk_at dksX3_soup_3 7 rfl rfl)
theorem dX3_soup_81 : decode cX3_soup 81 = .ok (.goto 4, 3) := dk_167 0 4 (dk_at dksX3_soup_3 9 rfl rfl)
theorem dX3_soup_84 : decode cX3_soup 84 = .ok (.iconst (-1), 1) := dk_2 (dk_at dksX3_soup_3 12 rfl rfl)
theorem dX3_soup_85 : decode cX3_soup 85 = .ok (.iastore, 1) := dk_79 (dk_at dksX3_soup_3 13 rfl rfl)
theorem dX3_soup_86 : decode cX3_soup 86 = .ok (.iload 4, 2) := dk_21 4 (dk_at dksX3_soup_3 14 rfl rfl)
theorem dX3_soup_88 : decode cX3_soup 88 = .ok (.iload_n 2, 1) := dk_28 (dk_at dksX3_soup_3 16 rfl rfl)
theorem dX3_soup_89 : decode cX3_soup 89 = .ok (.iload 5, 2) := dk_21 5 (dk_at dksX3_soup_3 17 rfl rfl)
theorem dX3_soup_91 : decode cX3_soup 91 = .ok (.ishr, 1) := dk_122 (dk_at dksX3_soup_3 19 rfl rfl)
theorem dX3_soup_92 : decode cX3_soup 92 = .ok (.iconst 1, 1) := dk_4 (dk_at dksX3_soup_3 20 rfl rfl)
theorem dX3_soup_93 : decode cX3_soup 93 = .ok (.iand, 1) := dk_126 (dk_at dksX3_soup_3 21 rfl rfl)
theorem dX3_soup_94 : decode cX3_soup 94 = .ok (.iadd, 1) := dk_96 (dk_at dksX3_soup_3 22 rfl rfl)
theorem dX3_soup_95 : decode cX3_soup 95 = .ok (.istore 4, 2) := dk_54 4 (dk_at dksX3_soup_4 0 rfl rfl)
theorem dX3_soup_97 : decode cX3_soup 97 = .ok (.iinc 5 1, 3) := dk_132 5 1 (dk_at dksX3_soup_4 2 rfl rfl)
theorem dX3_soup_100 : decode cX3_soup 100 = .ok (.goto (-44), 3) := dk_167 255 212 (dk_at dksX3_soup_4 5 rfl rfl)
theorem dX3_soup_103 : decode cX3_soup 103 = .ok (.iconst 0, 1) := dk_3 (dk_at dksX3_soup_4 8 rfl rfl)
theorem dX3_soup_104 : decode cX3_soup 104 = .ok (.istore 5, 2) := dk_54 5 (dk_at dksX3_soup_4 9 rfl rfl)
theorem dX3_soup_106 : decode cX3_soup 106 = .ok (.iload 5, 2) := dk_21 5 (dk_at dksX3_soup_4 11 rfl rfl)
theorem dX3_soup_108 : decode cX3_soup 108 = .ok (.iconst 1, 1) := dk_4 (dk_at dksX3_soup_4 13 rfl rfl)
theorem dX3_soup_109 : decode cX3_soup 109 = .ok (.iload 4, 2) := dk_21 4 (dk_at dksX3_soup_4 14 rfl rfl)
theorem dX3_soup_111 : decode cX3_soup 111 = .ok (.ishl, 1) := dk_120 (dk_at dksX3_soup_4 16 rfl rfl)
theorem dX3_soup_112 : decode cX3_soup 112 = .ok (.if_icmp .ge 46, 3) := dk_162 0 46 (dk_at dksX3_soup_4 17 rfl rfl)
theorem dX3_soup_115 : decode cX3_soup 115 = .ok (.iconst 0, 1) := dk_3 (dk_at dksX3_soup_4 20 rfl rfl)
theorem dX3_soup_116 : decode cX3_soup 116 = .ok (.istore 6, 2) := dk_54 6 (dk_at dksX3_soup_4 21 rfl rfl)
theorem dX3_soup_118 : decode cX3_soup 118 = .ok (.iload 6, 2) := dk_21 6 (dk_at dksX3_soup_5 0 rfl rfl)
theorem dX3_soup_120 : decode cX3_soup 120 = .ok (.bipush 64, 2) := dk_16 64 (dk_at dksX3_soup_5 2 rfl rfl)
theorem dX3_soup_122 : decode cX3_soup 122 = .ok (.if_icmp .ge 30, 3) := dk_162 0 30 (dk_at dksX3_soup_5 4 rfl rfl)
theorem dX3_soup_125 : decode cX3_soup 125 = .ok (.aload_n 0, 1) := dk_42 (dk_at dksX3_soup_5 7 rfl rfl)
theorem dX3_soup_126 : decode cX3_soup 126 = .ok (.getfield 77, 3) := dk_180 0 77 (dk_at dksX3_soup_5 8 rfl rfl)
theorem dX3_soup_129 : decode cX3_soup 129 = .ok (.bipush 64, 2) := dk_16 64 (dk_at dksX3_soup_5 11 rfl rfl)
theorem dX3_soup_131 : decode cX3_soup 131 = .ok (.iload 5, 2) := dk_21 5 (dk_at dksX3_soup_5 13 rfl rfl)
theorem dX3_soup_133 : decode cX3_soup 133 = .ok (.imul, 1) := dk_104 (dk_at dksX3_soup_5 15 rfl rfl)
theorem dX3_soup_134 : decode cX3_soup 134 = .ok (.iload 6, 2) := dk_21 6 (dk_at dksX3_soup_5 16 rfl rfl)
theorem dX3_soup_136 : decode cX3_soup 136 = .ok (.iadd, 1) := dk_96 (dk_at dksX3_soup_5 18 rfl rfl)
theorem dX3_soup_137 : decode cX3_soup 137 = .ok (.aload_n 0, 1) := dk_42 (dk_at dksX3_soup_5 19 rfl rfl)
theorem dX3_soup_138 : decode cX3_soup 138 = .ok (.iload 6, 2) := dk_21 6 (dk_at dksX3_soup_5 20 rfl rfl)
theorem dX3_soup_140 : decode cX3_soup 140 = .ok (.iload 5, 2) := dk_21 5 (dk_at dksX3_soup_5 22 rfl rfl)
theorem dX3_soup_142 : decode cX3_soup 142 = .ok (.invokevirtual 294, 3) := dk_182 1 38 (dk_at dksX3_soup_6 0 rfl rfl)
theorem dX3_soup_145 : decode cX3_soup 145 = .ok (.iastore, 1) := dk_79 (dk_at dksX3_soup_6 3 rfl rfl)
theorem dX3_soup_146 : decode cX3_soup 146 = .ok (.iinc 6 1, 3) := dk_132 6 1 (dk_at dksX3_soup_6 4 rfl rfl)
theorem dX3_soup_149 : decode cX3_soup 149 = .ok (.goto (-31), 3) := dk_167 255 225 (dk_at dksX3_soup_6 7 rfl rfl)
theorem dX3_soup_152 : decode cX3_soup 152 = .ok (.iinc 5 1, 3) := dk_132 5 1 (dk_at dksX3_soup_6 10 rfl rfl)
theorem dX3_soup_155 : decode cX3_soup 155 = .ok (.goto (-49), 3) := dk_167 255 207 (dk_at dksX3_soup_6 13 rfl rfl)
theorem dX3_soup_158 : decode cX3_soup 158 = .ok (.iconst 1, 1) := dk_4 (dk_at dksX3_soup_6 16 rfl rfl)
theorem dX3_soup_159 : decode cX3_soup 159 = .ok (.iload 4, 2) := dk_21 4 (dk_at dksX3_soup_6 17 rfl rfl)
theorem dX3_soup_161 : decode cX3_soup 161 = .ok (.ishl, 1) := dk_120 (dk_at dksX3_soup_6 19 rfl rfl)
theorem dX3_soup_162 : decode cX3_soup 162 = .ok (.iconst 1, 1) := dk_4 (dk_at dksX3_soup_6 20 rfl rfl)
theorem dX3_soup_163 : decode cX3_soup 163 = .ok (.isub, 1) := dk_100 (dk_at dksX3_soup_6 21 rfl rfl)
theorem dX3_soup_164 : decode cX3_soup 164 = .ok (.istore 5, 2) := dk_54 5 (dk_at dksX3_soup_6 22 rfl rfl)
theorem dX3_soup_166 : decode cX3_soup 166 = .ok (.aload_n 0, 1) := dk_42 (dk_at dksX3_soup_7 0 rfl rfl)
theorem dX3_soup_167 : decode cX3_soup 167 = .ok (.getfield 7, 3) := dk_180 0 7 (dk_at dksX3_soup_7 1 rfl rfl)
theorem dX3_soup_170 : decode cX3_soup 170 = .ok (.sipush 256, 3) := dk_17 1 0 (dk_at dksX3_soup_7 4 rfl rfl)
theorem dX3_soup_173 : decode cX3_soup 173 = .ok (.iload_n 1, 1) := dk_27 (dk_at dksX3_soup_7 7 rfl rfl)
theorem dX3_soup_174 : decode cX3_soup 174 = .ok (.iadd, 1) := dk_96 (dk_at dksX3_soup_7 8 rfl rfl)
theorem dX3_soup_175 : decode cX3_soup 175 = .ok (.iaload, 1) := dk_46 (dk_at dksX3_soup_7 9 rfl rfl)
theorem dX3_soup_176 : decode cX3_soup 176 = .ok (.istore 6, 2) := dk_54 6 (dk_at dksX3_soup_7 10 rfl rfl)
theorem dX3_soup_178 : decode cX3_soup 178 = .ok (.aload_n 0, 1) := dk_42 (dk_at dksX3_soup_7 12 rfl rfl)
theorem dX3_soup_179 : decode cX3_soup 179 = .ok (.iload 6, 2) := dk_21 6 (dk_at dksX3_soup_7 13 rfl rfl)
theorem dX3_soup_181 : decode cX3_soup 181 = .ok (.iload 5, 2) := dk_21 5 (dk_at dksX3_soup_7 15 rfl rfl)
theorem dX3_soup_183 : decode cX3_soup 183 = .ok (.invokevirtual 294, 3) := dk_182 1 38 (dk_at dksX3_soup_7 17 rfl rfl)
theorem dX3_soup_186 : decode cX3_soup 186 = .ok (.istore 7, 2) := dk_54 7 (dk_at dksX3_soup_7 20 rfl rfl)
theorem dX3_soup_188 : decode cX3_soup 188 = .ok (.iload 7, 2) := dk_21 7 (dk_at dksX3_soup_7 22 rfl rfl)
theorem dX3_soup_190 : decode cX3_soup 190 = .ok (.ldc_w 287, 3) := dk_19 1 31 (dk_at dksX3_soup_8 0 rfl rfl)
theorem dX3_soup_193 : decode cX3_soup 193 = .ok (.if_icmp .lt 5, 3) := dk_161 0 5 (dk_at dksX3_soup_8 3 rfl rfl)
theorem dX3_soup_196 : decode cX3_soup 196 = .ok (.iconst (-1), 1) := dk_2 (dk_at dksX3_soup_8 6 rfl rfl)
theorem dX3_soup_197 : decode cX3_soup 197 = .ok (.ireturn, 1) := dk_172 (dk_at dksX3_soup_8 7 rfl rfl)
theorem dX3_soup_198 : decode cX3_soup 198 = .ok (.iload_n 3, 1) := dk_29 (dk_at dksX3_soup_8 8 rfl rfl)
theorem dX3_soup_199 : decode cX3_soup 199 = .ok (.ifCond .ne 6, 3) := dk_154 0 6 (dk_at dksX3_soup_8 9 rfl rfl)
theorem dX3_soup_202 : decode cX3_soup 202 = .ok (.iload 7, 2) := dk_21 7 (dk_at dksX3_soup_8 12 rfl rfl)
theorem dX3_soup_204 : decode cX3_soup 204 = .ok (.ireturn, 1) := dk_172 (dk_at dksX3_soup_8 14 rfl rfl)
theorem dX3_soup_205 : decode cX3_soup 205 = .ok (.iconst 0, 1) := dk_3 (dk_at dksX3_soup_8 15 rfl rfl)
theorem dX3_soup_206 : decode cX3_soup 206 = .ok (.istore 8, 2) := dk_54 8 (dk_at dksX3_soup_8 16 rfl rfl)
theorem dX3_soup_208 : decode cX3_soup 208 = .ok (.aload_n 0, 1) := dk_42 (dk_at dksX3_soup_8 18 rfl rfl)
theorem dX3_soup_209 : decode cX3_soup 209 = .ok (.iload 6, 2) := dk_21 6 (dk_at dksX3_soup_8 19 rfl rfl)
theorem dX3_soup_211 : decode cX3_soup 211 = .ok (.iload 8, 2) := dk_21 8 (dk_at dksX3_soup_8 21 rfl rfl)
theorem dX3_soup_213 : decode cX3_soup 213 = .ok (.iload 5, 2) := dk_21 5 (dk_at dksX3_soup_9 0 rfl rfl)
theorem dX3_soup_215 : decode cX3_soup 215 = .ok (.invokevirtual 288, 3) := dk_182 1 32 (dk_at dksX3_soup_9 2 rfl rfl)
theorem dX3_soup_218 : decode cX3_soup 218 = .ok (.iload 7, 2) := dk_21 7 (dk_at dksX3_soup_9 5 rfl rfl)
theorem dX3_soup_220 : decode cX3_soup 220 = .ok (.if_icmp .eq 12, 3) := dk_159 0 12 (dk_at dksX3_soup_9 7 rfl rfl)
theorem dX3_soup_223 : decode cX3_soup 223 = .ok (.iload 8, 2) := dk_21 8 (dk_at dksX3_soup_9 10 rfl rfl)
theorem dX3_soup_225 : decode cX3_soup 225 = .ok (.iconst 1, 1) := dk_4 (dk_at dksX3_soup_9 12 rfl rfl)
theorem dX3_soup_226 : decode cX3_soup 226 = .ok (.iadd, 1) := dk_96 (dk_at dksX3_soup_9 13 rfl rfl)
theorem dX3_soup_227 : decode cX3_soup 227 = .ok (.istore 8, 2) := dk_54 8 (dk_at dksX3_soup_9 14 rfl rfl)
theorem dX3_soup_229 : decode cX3_soup 229 = .ok (.goto (-21), 3) := dk_167 255 235 (dk_at dksX3_soup_9 16 rfl rfl)
theorem dX3_soup_232 : decode cX3_soup 232 = .ok (.iload 8, 2) := dk_21 8 (dk_at dksX3_soup_9 19 rfl rfl)
theorem dX3_soup_234 : decode cX3_soup 234 = .ok (.ireturn, 1) := dk_172 (dk_at dksX3_soup_9 21 rfl rfl)
abbrev cX3_ones : ByteArray := prog_14_method_4_code
def yX3_ones : MethodName := ⟨RX3, "ones", "(I)I"⟩
def dkwX3_ones_0 : List UInt8 := [3, 61, 27, 62, 29, 153, 0, 16, 28, 4, 96, 61, 29, 29, 4, 100, 126, 62, 167, 255, 242, 28, 172]
abbrev dktX3_ones_0 : List UInt8 := dkwX3_ones_0 ++ []
theorem dksX3_ones_0 : cX3_ones.data.toList.drop 0 = dktX3_ones_0 := by decide +kernel
theorem dX3_ones_0 : decode cX3_ones 0 = .ok (.iconst 0, 1) := dk_3 (dk_at dksX3_ones_0 0 rfl rfl)
theorem dX3_ones_1 : decode cX3_ones 1 = .ok (.istore_n 2, 1) := dk_61 (dk_at dksX3_ones_0 1 rfl rfl)
theorem dX3_ones_2 : decode cX3_ones 2 = .ok (.iload_n 1, 1) := dk_27 (dk_at dksX3_ones_0 2 rfl rfl)
theorem dX3_ones_3 : decode cX3_ones 3 = .ok (.istore_n 3, 1) := dk_62 (dk_at dksX3_ones_0 3 rfl rfl)
theorem dX3_ones_4 : decode cX3_ones 4 = .ok (.iload_n 3, 1) := dk_29 (dk_at dksX3_ones_0 4 rfl rfl)
theorem dX3_ones_5 : decode cX3_ones 5 = .ok (.ifCond .eq 16, 3) := dk_153 0 16 (dk_at dksX3_ones_0 5 rfl rfl)
theorem dX3_ones_8 : decode cX3_ones 8 = .ok (.iload_n 2, 1) := dk_28 (dk_at dksX3_ones_0 8 rfl rfl)
theorem dX3_ones_9 : decode cX3_ones 9 = .ok (.iconst 1, 1) := dk_4 (dk_at dksX3_ones_0 9 rfl rfl)
theorem dX3_ones_10 : decode cX3_ones 10 = .ok (.iadd, 1) := dk_96 (dk_at dksX3_ones_0 10 rfl rfl)
theorem dX3_ones_11 : decode cX3_ones 11 = .ok (.istore_n 2, 1) := dk_61 (dk_at dksX3_ones_0 11 rfl rfl)
theorem dX3_ones_12 : decode cX3_ones 12 = .ok (.iload_n 3, 1) := dk_29 (dk_at dksX3_ones_0 12 rfl rfl)
theorem dX3_ones_13 : decode cX3_ones 13 = .ok (.iload_n 3, 1) := dk_29 (dk_at dksX3_ones_0 13 rfl rfl)
theorem dX3_ones_14 : decode cX3_ones 14 = .ok (.iconst 1, 1) := dk_4 (dk_at dksX3_ones_0 14 rfl rfl)
theorem dX3_ones_15 : decode cX3_ones 15 = .ok (.isub, 1) := dk_100 (dk_at dksX3_ones_0 15 rfl rfl)
theorem dX3_ones_16 : decode cX3_ones 16 = .ok (.iand, 1) := dk_126 (dk_at dksX3_ones_0 16 rfl rfl)
theorem dX3_ones_17 : decode cX3_ones 17 = .ok (.istore_n 3, 1) := dk_62 (dk_at dksX3_ones_0 17 rfl rfl)
theorem dX3_ones_18 : decode cX3_ones 18 = .ok (.goto (-14), 3) := dk_167 255 242 (dk_at dksX3_ones_0 18 rfl rfl)
theorem dX3_ones_21 : decode cX3_ones 21 = .ok (.iload_n 2, 1) := dk_28 (dk_at dksX3_ones_0 21 rfl rfl)
theorem dX3_ones_22 : decode cX3_ones 22 = .ok (.ireturn, 1) := dk_172 (dk_at dksX3_ones_0 22 rfl rfl)
abbrev cX3_wayFrom : ByteArray := prog_14_method_66_code
def yX3_wayFrom : MethodName := ⟨RX3, "wayFrom", "(II)I"⟩
def dkwX3_wayFrom_2 : List UInt8 := [29, 62, 132, 4, 1, 167, 255, 219, 29, 172]
abbrev dktX3_wayFrom_2 : List UInt8 := dkwX3_wayFrom_2 ++ []
def dkwX3_wayFrom_1 : List UInt8 := [153, 0, 32, 42, 27, 21, 4, 28, 182, 1, 32, 54, 5, 21, 5, 29, 162, 0, 8, 21, 5, 167, 0, 4]
abbrev dktX3_wayFrom_1 : List UInt8 := dkwX3_wayFrom_1 ++ dktX3_wayFrom_2
def dkwX3_wayFrom_0 : List UInt8 := [28, 154, 0, 7, 3, 167, 0, 6, 19, 1, 31, 62, 3, 54, 4, 21, 4, 16, 64, 162, 0, 36, 28]
abbrev dktX3_wayFrom_0 : List UInt8 := dkwX3_wayFrom_0 ++ dktX3_wayFrom_1
theorem dksX3_wayFrom_0 : cX3_wayFrom.data.toList.drop 0 = dktX3_wayFrom_0 := by decide +kernel
theorem dksX3_wayFrom_1 : cX3_wayFrom.data.toList.drop 23 = dktX3_wayFrom_1 := dk_seg dksX3_wayFrom_0 23 rfl rfl
theorem dksX3_wayFrom_2 : cX3_wayFrom.data.toList.drop 47 = dktX3_wayFrom_2 := dk_seg dksX3_wayFrom_1 24 rfl rfl
theorem dX3_wayFrom_0 : decode cX3_wayFrom 0 = .ok (.iload_n 2, 1) := dk_28 (dk_at dksX3_wayFrom_0 0 rfl rfl)
theorem dX3_wayFrom_1 : decode cX3_wayFrom 1 = .ok (.ifCond .ne 7, 3) := dk_154 0 7 (dk_at dksX3_wayFrom_0 1 rfl rfl)
theorem dX3_wayFrom_4 : decode cX3_wayFrom 4 = .ok (.iconst 0, 1) := dk_3 (dk_at dksX3_wayFrom_0 4 rfl rfl)
theorem dX3_wayFrom_5 : decode cX3_wayFrom 5 = .ok (.goto 6, 3) := dk_167 0 6 (dk_at dksX3_wayFrom_0 5 rfl rfl)
theorem dX3_wayFrom_8 : decode cX3_wayFrom 8 = .ok (.ldc_w 287, 3) := dk_19 1 31 (dk_at dksX3_wayFrom_0 8 rfl rfl)
theorem dX3_wayFrom_11 : decode cX3_wayFrom 11 = .ok (.istore_n 3, 1) := dk_62 (dk_at dksX3_wayFrom_0 11 rfl rfl)
theorem dX3_wayFrom_12 : decode cX3_wayFrom 12 = .ok (.iconst 0, 1) := dk_3 (dk_at dksX3_wayFrom_0 12 rfl rfl)
theorem dX3_wayFrom_13 : decode cX3_wayFrom 13 = .ok (.istore 4, 2) := dk_54 4 (dk_at dksX3_wayFrom_0 13 rfl rfl)
theorem dX3_wayFrom_15 : decode cX3_wayFrom 15 = .ok (.iload 4, 2) := dk_21 4 (dk_at dksX3_wayFrom_0 15 rfl rfl)
theorem dX3_wayFrom_17 : decode cX3_wayFrom 17 = .ok (.bipush 64, 2) := dk_16 64 (dk_at dksX3_wayFrom_0 17 rfl rfl)
theorem dX3_wayFrom_19 : decode cX3_wayFrom 19 = .ok (.if_icmp .ge 36, 3) := dk_162 0 36 (dk_at dksX3_wayFrom_0 19 rfl rfl)
theorem dX3_wayFrom_22 : decode cX3_wayFrom 22 = .ok (.iload_n 2, 1) := dk_28 (dk_at dksX3_wayFrom_0 22 rfl rfl)
theorem dX3_wayFrom_23 : decode cX3_wayFrom 23 = .ok (.ifCond .eq 32, 3) := dk_153 0 32 (dk_at dksX3_wayFrom_1 0 rfl rfl)
theorem dX3_wayFrom_26 : decode cX3_wayFrom 26 = .ok (.aload_n 0, 1) := dk_42 (dk_at dksX3_wayFrom_1 3 rfl rfl)
theorem dX3_wayFrom_27 : decode cX3_wayFrom 27 = .ok (.iload_n 1, 1) := dk_27 (dk_at dksX3_wayFrom_1 4 rfl rfl)
theorem dX3_wayFrom_28 : decode cX3_wayFrom 28 = .ok (.iload 4, 2) := dk_21 4 (dk_at dksX3_wayFrom_1 5 rfl rfl)
theorem dX3_wayFrom_30 : decode cX3_wayFrom 30 = .ok (.iload_n 2, 1) := dk_28 (dk_at dksX3_wayFrom_1 7 rfl rfl)
theorem dX3_wayFrom_31 : decode cX3_wayFrom 31 = .ok (.invokevirtual 288, 3) := dk_182 1 32 (dk_at dksX3_wayFrom_1 8 rfl rfl)
theorem dX3_wayFrom_34 : decode cX3_wayFrom 34 = .ok (.istore 5, 2) := dk_54 5 (dk_at dksX3_wayFrom_1 11 rfl rfl)
theorem dX3_wayFrom_36 : decode cX3_wayFrom 36 = .ok (.iload 5, 2) := dk_21 5 (dk_at dksX3_wayFrom_1 13 rfl rfl)
theorem dX3_wayFrom_38 : decode cX3_wayFrom 38 = .ok (.iload_n 3, 1) := dk_29 (dk_at dksX3_wayFrom_1 15 rfl rfl)
theorem dX3_wayFrom_39 : decode cX3_wayFrom 39 = .ok (.if_icmp .ge 8, 3) := dk_162 0 8 (dk_at dksX3_wayFrom_1 16 rfl rfl)
theorem dX3_wayFrom_42 : decode cX3_wayFrom 42 = .ok (.iload 5, 2) := dk_21 5 (dk_at dksX3_wayFrom_1 19 rfl rfl)
theorem dX3_wayFrom_44 : decode cX3_wayFrom 44 = .ok (.goto 4, 3) := dk_167 0 4 (dk_at dksX3_wayFrom_1 21 rfl rfl)
theorem dX3_wayFrom_47 : decode cX3_wayFrom 47 = .ok (.iload_n 3, 1) := dk_29 (dk_at dksX3_wayFrom_2 0 rfl rfl)
theorem dX3_wayFrom_48 : decode cX3_wayFrom 48 = .ok (.istore_n 3, 1) := dk_62 (dk_at dksX3_wayFrom_2 1 rfl rfl)
theorem dX3_wayFrom_49 : decode cX3_wayFrom 49 = .ok (.iinc 4 1, 3) := dk_132 4 1 (dk_at dksX3_wayFrom_2 2 rfl rfl)
theorem dX3_wayFrom_52 : decode cX3_wayFrom 52 = .ok (.goto (-37), 3) := dk_167 255 219 (dk_at dksX3_wayFrom_2 5 rfl rfl)
theorem dX3_wayFrom_55 : decode cX3_wayFrom 55 = .ok (.iload_n 3, 1) := dk_29 (dk_at dksX3_wayFrom_2 8 rfl rfl)
theorem dX3_wayFrom_56 : decode cX3_wayFrom 56 = .ok (.ireturn, 1) := dk_172 (dk_at dksX3_wayFrom_2 9 rfl rfl)
abbrev cX3_wayBy : ByteArray := prog_14_method_65_code
def yX3_wayBy : MethodName := ⟨RX3, "wayBy", "(III)I"⟩
def dkwX3_wayBy_3 : List UInt8 := [104, 28, 96, 46, 96, 172]
abbrev dktX3_wayBy_3 : List UInt8 := dkwX3_wayBy_3 ++ []
def dkwX3_wayBy_2 : List UInt8 := [19, 1, 31, 172, 42, 27, 28, 182, 0, 253, 42, 180, 0, 77, 16, 64, 29, 4, 21, 4, 120, 2, 130, 126]
abbrev dktX3_wayBy_2 : List UInt8 := dkwX3_wayBy_2 ++ dktX3_wayBy_3
def dkwX3_wayBy_1 : List UInt8 := [28, 96, 46, 4, 100, 46, 54, 4, 21, 4, 2, 159, 0, 12, 29, 21, 4, 122, 4, 126, 154, 0, 7]
abbrev dktX3_wayBy_1 : List UInt8 := dkwX3_wayBy_1 ++ dktX3_wayBy_2
def dkwX3_wayBy_0 : List UInt8 := [42, 180, 0, 7, 3, 28, 96, 46, 154, 0, 7, 19, 1, 31, 172, 42, 180, 0, 80, 42, 180, 0, 7, 3]
abbrev dktX3_wayBy_0 : List UInt8 := dkwX3_wayBy_0 ++ dktX3_wayBy_1
theorem dksX3_wayBy_0 : cX3_wayBy.data.toList.drop 0 = dktX3_wayBy_0 := by decide +kernel
theorem dksX3_wayBy_1 : cX3_wayBy.data.toList.drop 24 = dktX3_wayBy_1 := dk_seg dksX3_wayBy_0 24 rfl rfl
theorem dksX3_wayBy_2 : cX3_wayBy.data.toList.drop 47 = dktX3_wayBy_2 := dk_seg dksX3_wayBy_1 23 rfl rfl
theorem dksX3_wayBy_3 : cX3_wayBy.data.toList.drop 71 = dktX3_wayBy_3 := dk_seg dksX3_wayBy_2 24 rfl rfl
theorem dX3_wayBy_0 : decode cX3_wayBy 0 = .ok (.aload_n 0, 1) := dk_42 (dk_at dksX3_wayBy_0 0 rfl rfl)
theorem dX3_wayBy_1 : decode cX3_wayBy 1 = .ok (.getfield 7, 3) := dk_180 0 7 (dk_at dksX3_wayBy_0 1 rfl rfl)
theorem dX3_wayBy_4 : decode cX3_wayBy 4 = .ok (.iconst 0, 1) := dk_3 (dk_at dksX3_wayBy_0 4 rfl rfl)
theorem dX3_wayBy_5 : decode cX3_wayBy 5 = .ok (.iload_n 2, 1) := dk_28 (dk_at dksX3_wayBy_0 5 rfl rfl)
theorem dX3_wayBy_6 : decode cX3_wayBy 6 = .ok (.iadd, 1) := dk_96 (dk_at dksX3_wayBy_0 6 rfl rfl)
theorem dX3_wayBy_7 : decode cX3_wayBy 7 = .ok (.iaload, 1) := dk_46 (dk_at dksX3_wayBy_0 7 rfl rfl)
theorem dX3_wayBy_8 : decode cX3_wayBy 8 = .ok (.ifCond .ne 7, 3) := dk_154 0 7 (dk_at dksX3_wayBy_0 8 rfl rfl)
theorem dX3_wayBy_11 : decode cX3_wayBy 11 = .ok (.ldc_w 287, 3) := dk_19 1 31 (dk_at dksX3_wayBy_0 11 rfl rfl)
theorem dX3_wayBy_14 : decode cX3_wayBy 14 = .ok (.ireturn, 1) := dk_172 (dk_at dksX3_wayBy_0 14 rfl rfl)
theorem dX3_wayBy_15 : decode cX3_wayBy 15 = .ok (.aload_n 0, 1) := dk_42 (dk_at dksX3_wayBy_0 15 rfl rfl)
theorem dX3_wayBy_16 : decode cX3_wayBy 16 = .ok (.getfield 80, 3) := dk_180 0 80 (dk_at dksX3_wayBy_0 16 rfl rfl)
theorem dX3_wayBy_19 : decode cX3_wayBy 19 = .ok (.aload_n 0, 1) := dk_42 (dk_at dksX3_wayBy_0 19 rfl rfl)
theorem dX3_wayBy_20 : decode cX3_wayBy 20 = .ok (.getfield 7, 3) := dk_180 0 7 (dk_at dksX3_wayBy_0 20 rfl rfl)
theorem dX3_wayBy_23 : decode cX3_wayBy 23 = .ok (.iconst 0, 1) := dk_3 (dk_at dksX3_wayBy_0 23 rfl rfl)
theorem dX3_wayBy_24 : decode cX3_wayBy 24 = .ok (.iload_n 2, 1) := dk_28 (dk_at dksX3_wayBy_1 0 rfl rfl)
theorem dX3_wayBy_25 : decode cX3_wayBy 25 = .ok (.iadd, 1) := dk_96 (dk_at dksX3_wayBy_1 1 rfl rfl)
theorem dX3_wayBy_26 : decode cX3_wayBy 26 = .ok (.iaload, 1) := dk_46 (dk_at dksX3_wayBy_1 2 rfl rfl)
theorem dX3_wayBy_27 : decode cX3_wayBy 27 = .ok (.iconst 1, 1) := dk_4 (dk_at dksX3_wayBy_1 3 rfl rfl)
theorem dX3_wayBy_28 : decode cX3_wayBy 28 = .ok (.isub, 1) := dk_100 (dk_at dksX3_wayBy_1 4 rfl rfl)
theorem dX3_wayBy_29 : decode cX3_wayBy 29 = .ok (.iaload, 1) := dk_46 (dk_at dksX3_wayBy_1 5 rfl rfl)
theorem dX3_wayBy_30 : decode cX3_wayBy 30 = .ok (.istore 4, 2) := dk_54 4 (dk_at dksX3_wayBy_1 6 rfl rfl)
theorem dX3_wayBy_32 : decode cX3_wayBy 32 = .ok (.iload 4, 2) := dk_21 4 (dk_at dksX3_wayBy_1 8 rfl rfl)
theorem dX3_wayBy_34 : decode cX3_wayBy 34 = .ok (.iconst (-1), 1) := dk_2 (dk_at dksX3_wayBy_1 10 rfl rfl)
theorem dX3_wayBy_35 : decode cX3_wayBy 35 = .ok (.if_icmp .eq 12, 3) := dk_159 0 12 (dk_at dksX3_wayBy_1 11 rfl rfl)
theorem dX3_wayBy_38 : decode cX3_wayBy 38 = .ok (.iload_n 3, 1) := dk_29 (dk_at dksX3_wayBy_1 14 rfl rfl)
theorem dX3_wayBy_39 : decode cX3_wayBy 39 = .ok (.iload 4, 2) := dk_21 4 (dk_at dksX3_wayBy_1 15 rfl rfl)
theorem dX3_wayBy_41 : decode cX3_wayBy 41 = .ok (.ishr, 1) := dk_122 (dk_at dksX3_wayBy_1 17 rfl rfl)
theorem dX3_wayBy_42 : decode cX3_wayBy 42 = .ok (.iconst 1, 1) := dk_4 (dk_at dksX3_wayBy_1 18 rfl rfl)
theorem dX3_wayBy_43 : decode cX3_wayBy 43 = .ok (.iand, 1) := dk_126 (dk_at dksX3_wayBy_1 19 rfl rfl)
theorem dX3_wayBy_44 : decode cX3_wayBy 44 = .ok (.ifCond .ne 7, 3) := dk_154 0 7 (dk_at dksX3_wayBy_1 20 rfl rfl)
theorem dX3_wayBy_47 : decode cX3_wayBy 47 = .ok (.ldc_w 287, 3) := dk_19 1 31 (dk_at dksX3_wayBy_2 0 rfl rfl)
theorem dX3_wayBy_50 : decode cX3_wayBy 50 = .ok (.ireturn, 1) := dk_172 (dk_at dksX3_wayBy_2 3 rfl rfl)
theorem dX3_wayBy_51 : decode cX3_wayBy 51 = .ok (.aload_n 0, 1) := dk_42 (dk_at dksX3_wayBy_2 4 rfl rfl)
theorem dX3_wayBy_52 : decode cX3_wayBy 52 = .ok (.iload_n 1, 1) := dk_27 (dk_at dksX3_wayBy_2 5 rfl rfl)
theorem dX3_wayBy_53 : decode cX3_wayBy 53 = .ok (.iload_n 2, 1) := dk_28 (dk_at dksX3_wayBy_2 6 rfl rfl)
theorem dX3_wayBy_54 : decode cX3_wayBy 54 = .ok (.invokevirtual 253, 3) := dk_182 0 253 (dk_at dksX3_wayBy_2 7 rfl rfl)
theorem dX3_wayBy_57 : decode cX3_wayBy 57 = .ok (.aload_n 0, 1) := dk_42 (dk_at dksX3_wayBy_2 10 rfl rfl)
theorem dX3_wayBy_58 : decode cX3_wayBy 58 = .ok (.getfield 77, 3) := dk_180 0 77 (dk_at dksX3_wayBy_2 11 rfl rfl)
theorem dX3_wayBy_61 : decode cX3_wayBy 61 = .ok (.bipush 64, 2) := dk_16 64 (dk_at dksX3_wayBy_2 14 rfl rfl)
theorem dX3_wayBy_63 : decode cX3_wayBy 63 = .ok (.iload_n 3, 1) := dk_29 (dk_at dksX3_wayBy_2 16 rfl rfl)
theorem dX3_wayBy_64 : decode cX3_wayBy 64 = .ok (.iconst 1, 1) := dk_4 (dk_at dksX3_wayBy_2 17 rfl rfl)
theorem dX3_wayBy_65 : decode cX3_wayBy 65 = .ok (.iload 4, 2) := dk_21 4 (dk_at dksX3_wayBy_2 18 rfl rfl)
theorem dX3_wayBy_67 : decode cX3_wayBy 67 = .ok (.ishl, 1) := dk_120 (dk_at dksX3_wayBy_2 20 rfl rfl)
theorem dX3_wayBy_68 : decode cX3_wayBy 68 = .ok (.iconst (-1), 1) := dk_2 (dk_at dksX3_wayBy_2 21 rfl rfl)
theorem dX3_wayBy_69 : decode cX3_wayBy 69 = .ok (.ixor, 1) := dk_130 (dk_at dksX3_wayBy_2 22 rfl rfl)
theorem dX3_wayBy_70 : decode cX3_wayBy 70 = .ok (.iand, 1) := dk_126 (dk_at dksX3_wayBy_2 23 rfl rfl)
theorem dX3_wayBy_71 : decode cX3_wayBy 71 = .ok (.imul, 1) := dk_104 (dk_at dksX3_wayBy_3 0 rfl rfl)
theorem dX3_wayBy_72 : decode cX3_wayBy 72 = .ok (.iload_n 2, 1) := dk_28 (dk_at dksX3_wayBy_3 1 rfl rfl)
theorem dX3_wayBy_73 : decode cX3_wayBy 73 = .ok (.iadd, 1) := dk_96 (dk_at dksX3_wayBy_3 2 rfl rfl)
theorem dX3_wayBy_74 : decode cX3_wayBy 74 = .ok (.iaload, 1) := dk_46 (dk_at dksX3_wayBy_3 3 rfl rfl)
theorem dX3_wayBy_75 : decode cX3_wayBy 75 = .ok (.iadd, 1) := dk_96 (dk_at dksX3_wayBy_3 4 rfl rfl)
theorem dX3_wayBy_76 : decode cX3_wayBy 76 = .ok (.ireturn, 1) := dk_172 (dk_at dksX3_wayBy_3 5 rfl rfl)
abbrev cX3_unsaid : ByteArray := prog_14_method_70_code
def yX3_unsaid : MethodName := ⟨RX3, "unsaid", "(II)I"⟩
def dkwX3_unsaid_2 : List UInt8 := [21, 4, 96, 46, 4, 100, 120, 128, 62, 132, 4, 1, 167, 255, 219, 29, 172]
abbrev dktX3_unsaid_2 : List UInt8 := dkwX3_unsaid_2 ++ []
def dkwX3_unsaid_1 : List UInt8 := [16, 64, 162, 0, 36, 42, 21, 4, 27, 28, 182, 1, 45, 153, 0, 19, 29, 4, 42, 180, 0, 7, 3]
abbrev dktX3_unsaid_1 : List UInt8 := dkwX3_unsaid_1 ++ dktX3_unsaid_2
def dkwX3_unsaid_0 : List UInt8 := [42, 3, 181, 0, 86, 42, 27, 28, 182, 1, 41, 154, 0, 5, 2, 172, 3, 62, 3, 54, 4, 21, 4]
abbrev dktX3_unsaid_0 : List UInt8 := dkwX3_unsaid_0 ++ dktX3_unsaid_1
theorem dksX3_unsaid_0 : cX3_unsaid.data.toList.drop 0 = dktX3_unsaid_0 := by decide +kernel
theorem dksX3_unsaid_1 : cX3_unsaid.data.toList.drop 23 = dktX3_unsaid_1 := dk_seg dksX3_unsaid_0 23 rfl rfl
theorem dksX3_unsaid_2 : cX3_unsaid.data.toList.drop 46 = dktX3_unsaid_2 := dk_seg dksX3_unsaid_1 23 rfl rfl
theorem dX3_unsaid_0 : decode cX3_unsaid 0 = .ok (.aload_n 0, 1) := dk_42 (dk_at dksX3_unsaid_0 0 rfl rfl)
theorem dX3_unsaid_1 : decode cX3_unsaid 1 = .ok (.iconst 0, 1) := dk_3 (dk_at dksX3_unsaid_0 1 rfl rfl)
theorem dX3_unsaid_2 : decode cX3_unsaid 2 = .ok (.putfield 86, 3) := dk_181 0 86 (dk_at dksX3_unsaid_0 2 rfl rfl)
theorem dX3_unsaid_5 : decode cX3_unsaid 5 = .ok (.aload_n 0, 1) := dk_42 (dk_at dksX3_unsaid_0 5 rfl rfl)
theorem dX3_unsaid_6 : decode cX3_unsaid 6 = .ok (.iload_n 1, 1) := dk_27 (dk_at dksX3_unsaid_0 6 rfl rfl)
theorem dX3_unsaid_7 : decode cX3_unsaid 7 = .ok (.iload_n 2, 1) := dk_28 (dk_at dksX3_unsaid_0 7 rfl rfl)
theorem dX3_unsaid_8 : decode cX3_unsaid 8 = .ok (.invokevirtual 297, 3) := dk_182 1 41 (dk_at dksX3_unsaid_0 8 rfl rfl)
theorem dX3_unsaid_11 : decode cX3_unsaid 11 = .ok (.ifCond .ne 5, 3) := dk_154 0 5 (dk_at dksX3_unsaid_0 11 rfl rfl)
theorem dX3_unsaid_14 : decode cX3_unsaid 14 = .ok (.iconst (-1), 1) := dk_2 (dk_at dksX3_unsaid_0 14 rfl rfl)
theorem dX3_unsaid_15 : decode cX3_unsaid 15 = .ok (.ireturn, 1) := dk_172 (dk_at dksX3_unsaid_0 15 rfl rfl)
theorem dX3_unsaid_16 : decode cX3_unsaid 16 = .ok (.iconst 0, 1) := dk_3 (dk_at dksX3_unsaid_0 16 rfl rfl)
theorem dX3_unsaid_17 : decode cX3_unsaid 17 = .ok (.istore_n 3, 1) := dk_62 (dk_at dksX3_unsaid_0 17 rfl rfl)
theorem dX3_unsaid_18 : decode cX3_unsaid 18 = .ok (.iconst 0, 1) := dk_3 (dk_at dksX3_unsaid_0 18 rfl rfl)
theorem dX3_unsaid_19 : decode cX3_unsaid 19 = .ok (.istore 4, 2) := dk_54 4 (dk_at dksX3_unsaid_0 19 rfl rfl)
theorem dX3_unsaid_21 : decode cX3_unsaid 21 = .ok (.iload 4, 2) := dk_21 4 (dk_at dksX3_unsaid_0 21 rfl rfl)
theorem dX3_unsaid_23 : decode cX3_unsaid 23 = .ok (.bipush 64, 2) := dk_16 64 (dk_at dksX3_unsaid_1 0 rfl rfl)
theorem dX3_unsaid_25 : decode cX3_unsaid 25 = .ok (.if_icmp .ge 36, 3) := dk_162 0 36 (dk_at dksX3_unsaid_1 2 rfl rfl)
theorem dX3_unsaid_28 : decode cX3_unsaid 28 = .ok (.aload_n 0, 1) := dk_42 (dk_at dksX3_unsaid_1 5 rfl rfl)
theorem dX3_unsaid_29 : decode cX3_unsaid 29 = .ok (.iload 4, 2) := dk_21 4 (dk_at dksX3_unsaid_1 6 rfl rfl)
theorem dX3_unsaid_31 : decode cX3_unsaid 31 = .ok (.iload_n 1, 1) := dk_27 (dk_at dksX3_unsaid_1 8 rfl rfl)
theorem dX3_unsaid_32 : decode cX3_unsaid 32 = .ok (.iload_n 2, 1) := dk_28 (dk_at dksX3_unsaid_1 9 rfl rfl)
theorem dX3_unsaid_33 : decode cX3_unsaid 33 = .ok (.invokevirtual 301, 3) := dk_182 1 45 (dk_at dksX3_unsaid_1 10 rfl rfl)
theorem dX3_unsaid_36 : decode cX3_unsaid 36 = .ok (.ifCond .eq 19, 3) := dk_153 0 19 (dk_at dksX3_unsaid_1 13 rfl rfl)
theorem dX3_unsaid_39 : decode cX3_unsaid 39 = .ok (.iload_n 3, 1) := dk_29 (dk_at dksX3_unsaid_1 16 rfl rfl)
theorem dX3_unsaid_40 : decode cX3_unsaid 40 = .ok (.iconst 1, 1) := dk_4 (dk_at dksX3_unsaid_1 17 rfl rfl)
theorem dX3_unsaid_41 : decode cX3_unsaid 41 = .ok (.aload_n 0, 1) := dk_42 (dk_at dksX3_unsaid_1 18 rfl rfl)
theorem dX3_unsaid_42 : decode cX3_unsaid 42 = .ok (.getfield 7, 3) := dk_180 0 7 (dk_at dksX3_unsaid_1 19 rfl rfl)
theorem dX3_unsaid_45 : decode cX3_unsaid 45 = .ok (.iconst 0, 1) := dk_3 (dk_at dksX3_unsaid_1 22 rfl rfl)
theorem dX3_unsaid_46 : decode cX3_unsaid 46 = .ok (.iload 4, 2) := dk_21 4 (dk_at dksX3_unsaid_2 0 rfl rfl)
theorem dX3_unsaid_48 : decode cX3_unsaid 48 = .ok (.iadd, 1) := dk_96 (dk_at dksX3_unsaid_2 2 rfl rfl)
theorem dX3_unsaid_49 : decode cX3_unsaid 49 = .ok (.iaload, 1) := dk_46 (dk_at dksX3_unsaid_2 3 rfl rfl)
theorem dX3_unsaid_50 : decode cX3_unsaid 50 = .ok (.iconst 1, 1) := dk_4 (dk_at dksX3_unsaid_2 4 rfl rfl)
theorem dX3_unsaid_51 : decode cX3_unsaid 51 = .ok (.isub, 1) := dk_100 (dk_at dksX3_unsaid_2 5 rfl rfl)
theorem dX3_unsaid_52 : decode cX3_unsaid 52 = .ok (.ishl, 1) := dk_120 (dk_at dksX3_unsaid_2 6 rfl rfl)
theorem dX3_unsaid_53 : decode cX3_unsaid 53 = .ok (.ior, 1) := dk_128 (dk_at dksX3_unsaid_2 7 rfl rfl)
theorem dX3_unsaid_54 : decode cX3_unsaid 54 = .ok (.istore_n 3, 1) := dk_62 (dk_at dksX3_unsaid_2 8 rfl rfl)
theorem dX3_unsaid_55 : decode cX3_unsaid 55 = .ok (.iinc 4 1, 3) := dk_132 4 1 (dk_at dksX3_unsaid_2 9 rfl rfl)
theorem dX3_unsaid_58 : decode cX3_unsaid 58 = .ok (.goto (-37), 3) := dk_167 255 219 (dk_at dksX3_unsaid_2 12 rfl rfl)
theorem dX3_unsaid_61 : decode cX3_unsaid 61 = .ok (.iload_n 3, 1) := dk_29 (dk_at dksX3_unsaid_2 15 rfl rfl)
theorem dX3_unsaid_62 : decode cX3_unsaid 62 = .ok (.ireturn, 1) := dk_172 (dk_at dksX3_unsaid_2 16 rfl rfl)
abbrev cX3_isAround : ByteArray := prog_14_method_68_code
def yX3_isAround : MethodName := ⟨RX3, "isAround", "(II)Z"⟩
def dkwX3_isAround_1 : List UInt8 := [172]
abbrev dktX3_isAround_1 : List UInt8 := dkwX3_isAround_1 ++ []
def dkwX3_isAround_0 : List UInt8 := [42, 27, 182, 0, 129, 153, 0, 18, 42, 28, 3, 16, 14, 182, 0, 107, 153, 0, 7, 4, 167, 0, 4, 3]
abbrev dktX3_isAround_0 : List UInt8 := dkwX3_isAround_0 ++ dktX3_isAround_1
theorem dksX3_isAround_0 : cX3_isAround.data.toList.drop 0 = dktX3_isAround_0 := by decide +kernel
theorem dksX3_isAround_1 : cX3_isAround.data.toList.drop 24 = dktX3_isAround_1 := dk_seg dksX3_isAround_0 24 rfl rfl
theorem dX3_isAround_0 : decode cX3_isAround 0 = .ok (.aload_n 0, 1) := dk_42 (dk_at dksX3_isAround_0 0 rfl rfl)
theorem dX3_isAround_1 : decode cX3_isAround 1 = .ok (.iload_n 1, 1) := dk_27 (dk_at dksX3_isAround_0 1 rfl rfl)
theorem dX3_isAround_2 : decode cX3_isAround 2 = .ok (.invokevirtual 129, 3) := dk_182 0 129 (dk_at dksX3_isAround_0 2 rfl rfl)
theorem dX3_isAround_5 : decode cX3_isAround 5 = .ok (.ifCond .eq 18, 3) := dk_153 0 18 (dk_at dksX3_isAround_0 5 rfl rfl)
theorem dX3_isAround_8 : decode cX3_isAround 8 = .ok (.aload_n 0, 1) := dk_42 (dk_at dksX3_isAround_0 8 rfl rfl)
theorem dX3_isAround_9 : decode cX3_isAround 9 = .ok (.iload_n 2, 1) := dk_28 (dk_at dksX3_isAround_0 9 rfl rfl)
theorem dX3_isAround_10 : decode cX3_isAround 10 = .ok (.iconst 0, 1) := dk_3 (dk_at dksX3_isAround_0 10 rfl rfl)
theorem dX3_isAround_11 : decode cX3_isAround 11 = .ok (.bipush 14, 2) := dk_16 14 (dk_at dksX3_isAround_0 11 rfl rfl)
theorem dX3_isAround_13 : decode cX3_isAround 13 = .ok (.invokevirtual 107, 3) := dk_182 0 107 (dk_at dksX3_isAround_0 13 rfl rfl)
theorem dX3_isAround_16 : decode cX3_isAround 16 = .ok (.ifCond .eq 7, 3) := dk_153 0 7 (dk_at dksX3_isAround_0 16 rfl rfl)
theorem dX3_isAround_19 : decode cX3_isAround 19 = .ok (.iconst 1, 1) := dk_4 (dk_at dksX3_isAround_0 19 rfl rfl)
theorem dX3_isAround_20 : decode cX3_isAround 20 = .ok (.goto 4, 3) := dk_167 0 4 (dk_at dksX3_isAround_0 20 rfl rfl)
theorem dX3_isAround_23 : decode cX3_isAround 23 = .ok (.iconst 0, 1) := dk_3 (dk_at dksX3_isAround_0 23 rfl rfl)
theorem dX3_isAround_24 : decode cX3_isAround 24 = .ok (.ireturn, 1) := dk_172 (dk_at dksX3_isAround_1 0 rfl rfl)
abbrev cX3_isCapAround : ByteArray := prog_14_method_69_code
def yX3_isCapAround : MethodName := ⟨RX3, "isCapAround", "(III)Z"⟩
def dkwX3_isCapAround_1 : List UInt8 := [167, 0, 4, 3, 172]
abbrev dktX3_isCapAround_1 : List UInt8 := dkwX3_isCapAround_1 ++ []
def dkwX3_isCapAround_0 : List UInt8 := [42, 180, 0, 7, 3, 27, 96, 46, 158, 0, 17, 42, 27, 28, 182, 0, 253, 29, 163, 0, 7, 4]
abbrev dktX3_isCapAround_0 : List UInt8 := dkwX3_isCapAround_0 ++ dktX3_isCapAround_1
theorem dksX3_isCapAround_0 : cX3_isCapAround.data.toList.drop 0 = dktX3_isCapAround_0 := by decide +kernel
theorem dksX3_isCapAround_1 : cX3_isCapAround.data.toList.drop 22 = dktX3_isCapAround_1 := dk_seg dksX3_isCapAround_0 22 rfl rfl
theorem dX3_isCapAround_0 : decode cX3_isCapAround 0 = .ok (.aload_n 0, 1) := dk_42 (dk_at dksX3_isCapAround_0 0 rfl rfl)
theorem dX3_isCapAround_1 : decode cX3_isCapAround 1 = .ok (.getfield 7, 3) := dk_180 0 7 (dk_at dksX3_isCapAround_0 1 rfl rfl)
theorem dX3_isCapAround_4 : decode cX3_isCapAround 4 = .ok (.iconst 0, 1) := dk_3 (dk_at dksX3_isCapAround_0 4 rfl rfl)
theorem dX3_isCapAround_5 : decode cX3_isCapAround 5 = .ok (.iload_n 1, 1) := dk_27 (dk_at dksX3_isCapAround_0 5 rfl rfl)
theorem dX3_isCapAround_6 : decode cX3_isCapAround 6 = .ok (.iadd, 1) := dk_96 (dk_at dksX3_isCapAround_0 6 rfl rfl)
theorem dX3_isCapAround_7 : decode cX3_isCapAround 7 = .ok (.iaload, 1) := dk_46 (dk_at dksX3_isCapAround_0 7 rfl rfl)
theorem dX3_isCapAround_8 : decode cX3_isCapAround 8 = .ok (.ifCond .le 17, 3) := dk_158 0 17 (dk_at dksX3_isCapAround_0 8 rfl rfl)
theorem dX3_isCapAround_11 : decode cX3_isCapAround 11 = .ok (.aload_n 0, 1) := dk_42 (dk_at dksX3_isCapAround_0 11 rfl rfl)
theorem dX3_isCapAround_12 : decode cX3_isCapAround 12 = .ok (.iload_n 1, 1) := dk_27 (dk_at dksX3_isCapAround_0 12 rfl rfl)
theorem dX3_isCapAround_13 : decode cX3_isCapAround 13 = .ok (.iload_n 2, 1) := dk_28 (dk_at dksX3_isCapAround_0 13 rfl rfl)
theorem dX3_isCapAround_14 : decode cX3_isCapAround 14 = .ok (.invokevirtual 253, 3) := dk_182 0 253 (dk_at dksX3_isCapAround_0 14 rfl rfl)
theorem dX3_isCapAround_17 : decode cX3_isCapAround 17 = .ok (.iload_n 3, 1) := dk_29 (dk_at dksX3_isCapAround_0 17 rfl rfl)
theorem dX3_isCapAround_18 : decode cX3_isCapAround 18 = .ok (.if_icmp .gt 7, 3) := dk_163 0 7 (dk_at dksX3_isCapAround_0 18 rfl rfl)
theorem dX3_isCapAround_21 : decode cX3_isCapAround 21 = .ok (.iconst 1, 1) := dk_4 (dk_at dksX3_isCapAround_0 21 rfl rfl)
theorem dX3_isCapAround_22 : decode cX3_isCapAround 22 = .ok (.goto 4, 3) := dk_167 0 4 (dk_at dksX3_isCapAround_1 0 rfl rfl)
theorem dX3_isCapAround_25 : decode cX3_isCapAround 25 = .ok (.iconst 0, 1) := dk_3 (dk_at dksX3_isCapAround_1 3 rfl rfl)
theorem dX3_isCapAround_26 : decode cX3_isCapAround 26 = .ok (.ireturn, 1) := dk_172 (dk_at dksX3_isCapAround_1 4 rfl rfl)
abbrev cX3_odds : ByteArray := prog_14_method_72_code
def yX3_odds : MethodName := ⟨RX3, "odds", "(IIII)I"⟩
def dkwX3_odds_7 : List UInt8 := [21, 7, 21, 9, 108, 167, 0, 8, 21, 8, 21, 9, 108, 172]
abbrev dktX3_odds_7 : List UInt8 := dkwX3_odds_7 ++ []
def dkwX3_odds_6 : List UInt8 := [21, 9, 21, 10, 112, 54, 11, 21, 10, 54, 9, 21, 11, 54, 10, 167, 255, 236, 21, 4, 154, 0, 11]
abbrev dktX3_odds_6 : List UInt8 := dkwX3_odds_6 ++ dktX3_odds_7
def dkwX3_odds_5 : List UInt8 := [54, 7, 42, 21, 5, 29, 182, 1, 48, 54, 8, 21, 7, 54, 9, 21, 8, 54, 10, 21, 10, 153, 0, 21]
abbrev dktX3_odds_5 : List UInt8 := dkwX3_odds_5 ++ dktX3_odds_6
def dkwX3_odds_4 : List UInt8 := [96, 54, 6, 132, 7, 1, 167, 255, 201, 21, 5, 29, 162, 0, 5, 2, 172, 42, 21, 6, 29, 182, 1, 48]
abbrev dktX3_odds_4 : List UInt8 := dkwX3_odds_4 ++ dktX3_odds_5
def dkwX3_odds_3 : List UInt8 := [54, 5, 42, 180, 0, 29, 42, 180, 0, 7, 3, 21, 7, 96, 46, 4, 100, 46, 154, 0, 9, 21, 6, 4]
abbrev dktX3_odds_3 : List UInt8 := dkwX3_odds_3 ++ dktX3_odds_4
def dkwX3_odds_2 : List UInt8 := [16, 64, 162, 0, 54, 42, 21, 7, 27, 28, 182, 1, 45, 154, 0, 6, 167, 0, 34, 21, 5, 4, 96]
abbrev dktX3_odds_2 : List UInt8 := dkwX3_odds_2 ++ dktX3_odds_3
def dkwX3_odds_1 : List UInt8 := [42, 21, 4, 3, 4, 182, 0, 107, 154, 0, 5, 2, 172, 3, 54, 5, 3, 54, 6, 3, 54, 7, 21, 7]
abbrev dktX3_odds_1 : List UInt8 := dkwX3_odds_1 ++ dktX3_odds_2
def dkwX3_odds_0 : List UInt8 := [42, 3, 181, 0, 86, 42, 27, 28, 182, 1, 41, 153, 0, 24, 42, 29, 4, 7, 182, 0, 107, 153, 0, 14]
abbrev dktX3_odds_0 : List UInt8 := dkwX3_odds_0 ++ dktX3_odds_1
theorem dksX3_odds_0 : cX3_odds.data.toList.drop 0 = dktX3_odds_0 := by decide +kernel
theorem dksX3_odds_1 : cX3_odds.data.toList.drop 24 = dktX3_odds_1 := dk_seg dksX3_odds_0 24 rfl rfl
theorem dksX3_odds_2 : cX3_odds.data.toList.drop 48 = dktX3_odds_2 := dk_seg dksX3_odds_1 24 rfl rfl
theorem dksX3_odds_3 : cX3_odds.data.toList.drop 71 = dktX3_odds_3 := dk_seg dksX3_odds_2 23 rfl rfl
theorem dksX3_odds_4 : cX3_odds.data.toList.drop 95 = dktX3_odds_4 := dk_seg dksX3_odds_3 24 rfl rfl
theorem dksX3_odds_5 : cX3_odds.data.toList.drop 119 = dktX3_odds_5 := dk_seg dksX3_odds_4 24 rfl rfl
theorem dksX3_odds_6 : cX3_odds.data.toList.drop 143 = dktX3_odds_6 := dk_seg dksX3_odds_5 24 rfl rfl
theorem dksX3_odds_7 : cX3_odds.data.toList.drop 166 = dktX3_odds_7 := dk_seg dksX3_odds_6 23 rfl rfl
theorem dX3_odds_0 : decode cX3_odds 0 = .ok (.aload_n 0, 1) := dk_42 (dk_at dksX3_odds_0 0 rfl rfl)
theorem dX3_odds_1 : decode cX3_odds 1 = .ok (.iconst 0, 1) := dk_3 (dk_at dksX3_odds_0 1 rfl rfl)
theorem dX3_odds_2 : decode cX3_odds 2 = .ok (.putfield 86, 3) := dk_181 0 86 (dk_at dksX3_odds_0 2 rfl rfl)
theorem dX3_odds_5 : decode cX3_odds 5 = .ok (.aload_n 0, 1) := dk_42 (dk_at dksX3_odds_0 5 rfl rfl)
theorem dX3_odds_6 : decode cX3_odds 6 = .ok (.iload_n 1, 1) := dk_27 (dk_at dksX3_odds_0 6 rfl rfl)
theorem dX3_odds_7 : decode cX3_odds 7 = .ok (.iload_n 2, 1) := dk_28 (dk_at dksX3_odds_0 7 rfl rfl)
theorem dX3_odds_8 : decode cX3_odds 8 = .ok (.invokevirtual 297, 3) := dk_182 1 41 (dk_at dksX3_odds_0 8 rfl rfl)
theorem dX3_odds_11 : decode cX3_odds 11 = .ok (.ifCond .eq 24, 3) := dk_153 0 24 (dk_at dksX3_odds_0 11 rfl rfl)
theorem dX3_odds_14 : decode cX3_odds 14 = .ok (.aload_n 0, 1) := dk_42 (dk_at dksX3_odds_0 14 rfl rfl)
theorem dX3_odds_15 : decode cX3_odds 15 = .ok (.iload_n 3, 1) := dk_29 (dk_at dksX3_odds_0 15 rfl rfl)
theorem dX3_odds_16 : decode cX3_odds 16 = .ok (.iconst 1, 1) := dk_4 (dk_at dksX3_odds_0 16 rfl rfl)
theorem dX3_odds_17 : decode cX3_odds 17 = .ok (.iconst 4, 1) := dk_7 (dk_at dksX3_odds_0 17 rfl rfl)
theorem dX3_odds_18 : decode cX3_odds 18 = .ok (.invokevirtual 107, 3) := dk_182 0 107 (dk_at dksX3_odds_0 18 rfl rfl)
theorem dX3_odds_21 : decode cX3_odds 21 = .ok (.ifCond .eq 14, 3) := dk_153 0 14 (dk_at dksX3_odds_0 21 rfl rfl)
theorem dX3_odds_24 : decode cX3_odds 24 = .ok (.aload_n 0, 1) := dk_42 (dk_at dksX3_odds_1 0 rfl rfl)
theorem dX3_odds_25 : decode cX3_odds 25 = .ok (.iload 4, 2) := dk_21 4 (dk_at dksX3_odds_1 1 rfl rfl)
theorem dX3_odds_27 : decode cX3_odds 27 = .ok (.iconst 0, 1) := dk_3 (dk_at dksX3_odds_1 3 rfl rfl)
theorem dX3_odds_28 : decode cX3_odds 28 = .ok (.iconst 1, 1) := dk_4 (dk_at dksX3_odds_1 4 rfl rfl)
theorem dX3_odds_29 : decode cX3_odds 29 = .ok (.invokevirtual 107, 3) := dk_182 0 107 (dk_at dksX3_odds_1 5 rfl rfl)
theorem dX3_odds_32 : decode cX3_odds 32 = .ok (.ifCond .ne 5, 3) := dk_154 0 5 (dk_at dksX3_odds_1 8 rfl rfl)
theorem dX3_odds_35 : decode cX3_odds 35 = .ok (.iconst (-1), 1) := dk_2 (dk_at dksX3_odds_1 11 rfl rfl)
theorem dX3_odds_36 : decode cX3_odds 36 = .ok (.ireturn, 1) := dk_172 (dk_at dksX3_odds_1 12 rfl rfl)
theorem dX3_odds_37 : decode cX3_odds 37 = .ok (.iconst 0, 1) := dk_3 (dk_at dksX3_odds_1 13 rfl rfl)
theorem dX3_odds_38 : decode cX3_odds 38 = .ok (.istore 5, 2) := dk_54 5 (dk_at dksX3_odds_1 14 rfl rfl)
theorem dX3_odds_40 : decode cX3_odds 40 = .ok (.iconst 0, 1) := dk_3 (dk_at dksX3_odds_1 16 rfl rfl)
theorem dX3_odds_41 : decode cX3_odds 41 = .ok (.istore 6, 2) := dk_54 6 (dk_at dksX3_odds_1 17 rfl rfl)
theorem dX3_odds_43 : decode cX3_odds 43 = .ok (.iconst 0, 1) := dk_3 (dk_at dksX3_odds_1 19 rfl rfl)
theorem dX3_odds_44 : decode cX3_odds 44 = .ok (.istore 7, 2) := dk_54 7 (dk_at dksX3_odds_1 20 rfl rfl)
theorem dX3_odds_46 : decode cX3_odds 46 = .ok (.iload 7, 2) := dk_21 7 (dk_at dksX3_odds_1 22 rfl rfl)
theorem dX3_odds_48 : decode cX3_odds 48 = .ok (.bipush 64, 2) := dk_16 64 (dk_at dksX3_odds_2 0 rfl rfl)
theorem dX3_odds_50 : decode cX3_odds 50 = .ok (.if_icmp .ge 54, 3) := dk_162 0 54 (dk_at dksX3_odds_2 2 rfl rfl)
theorem dX3_odds_53 : decode cX3_odds 53 = .ok (.aload_n 0, 1) := dk_42 (dk_at dksX3_odds_2 5 rfl rfl)
theorem dX3_odds_54 : decode cX3_odds 54 = .ok (.iload 7, 2) := dk_21 7 (dk_at dksX3_odds_2 6 rfl rfl)
theorem dX3_odds_56 : decode cX3_odds 56 = .ok (.iload_n 1, 1) := dk_27 (dk_at dksX3_odds_2 8 rfl rfl)
theorem dX3_odds_57 : decode cX3_odds 57 = .ok (.iload_n 2, 1) := dk_28 (dk_at dksX3_odds_2 9 rfl rfl)
theorem dX3_odds_58 : decode cX3_odds 58 = .ok (.invokevirtual 301, 3) := dk_182 1 45 (dk_at dksX3_odds_2 10 rfl rfl)
theorem dX3_odds_61 : decode cX3_odds 61 = .ok (.ifCond .ne 6, 3) := dk_154 0 6 (dk_at dksX3_odds_2 13 rfl rfl)
theorem dX3_odds_64 : decode cX3_odds 64 = .ok (.goto 34, 3) := dk_167 0 34 (dk_at dksX3_odds_2 16 rfl rfl)
theorem dX3_odds_67 : decode cX3_odds 67 = .ok (.iload 5, 2) := dk_21 5 (dk_at dksX3_odds_2 19 rfl rfl)
theorem dX3_odds_69 : decode cX3_odds 69 = .ok (.iconst 1, 1) := dk_4 (dk_at dksX3_odds_2 21 rfl rfl)
theorem dX3_odds_70 : decode cX3_odds 70 = .ok (.iadd, 1) := dk_96 (dk_at dksX3_odds_2 22 rfl rfl)
theorem dX3_odds_71 : decode cX3_odds 71 = .ok (.istore 5, 2) := dk_54 5 (dk_at dksX3_odds_3 0 rfl rfl)
theorem dX3_odds_73 : decode cX3_odds 73 = .ok (.aload_n 0, 1) := dk_42 (dk_at dksX3_odds_3 2 rfl rfl)
theorem dX3_odds_74 : decode cX3_odds 74 = .ok (.getfield 29, 3) := dk_180 0 29 (dk_at dksX3_odds_3 3 rfl rfl)
theorem dX3_odds_77 : decode cX3_odds 77 = .ok (.aload_n 0, 1) := dk_42 (dk_at dksX3_odds_3 6 rfl rfl)
theorem dX3_odds_78 : decode cX3_odds 78 = .ok (.getfield 7, 3) := dk_180 0 7 (dk_at dksX3_odds_3 7 rfl rfl)
theorem dX3_odds_81 : decode cX3_odds 81 = .ok (.iconst 0, 1) := dk_3 (dk_at dksX3_odds_3 10 rfl rfl)
theorem dX3_odds_82 : decode cX3_odds 82 = .ok (.iload 7, 2) := dk_21 7 (dk_at dksX3_odds_3 11 rfl rfl)
theorem dX3_odds_84 : decode cX3_odds 84 = .ok (.iadd, 1) := dk_96 (dk_at dksX3_odds_3 13 rfl rfl)
theorem dX3_odds_85 : decode cX3_odds 85 = .ok (.iaload, 1) := dk_46 (dk_at dksX3_odds_3 14 rfl rfl)
theorem dX3_odds_86 : decode cX3_odds 86 = .ok (.iconst 1, 1) := dk_4 (dk_at dksX3_odds_3 15 rfl rfl)
theorem dX3_odds_87 : decode cX3_odds 87 = .ok (.isub, 1) := dk_100 (dk_at dksX3_odds_3 16 rfl rfl)
theorem dX3_odds_88 : decode cX3_odds 88 = .ok (.iaload, 1) := dk_46 (dk_at dksX3_odds_3 17 rfl rfl)
theorem dX3_odds_89 : decode cX3_odds 89 = .ok (.ifCond .ne 9, 3) := dk_154 0 9 (dk_at dksX3_odds_3 18 rfl rfl)
theorem dX3_odds_92 : decode cX3_odds 92 = .ok (.iload 6, 2) := dk_21 6 (dk_at dksX3_odds_3 21 rfl rfl)
theorem dX3_odds_94 : decode cX3_odds 94 = .ok (.iconst 1, 1) := dk_4 (dk_at dksX3_odds_3 23 rfl rfl)
