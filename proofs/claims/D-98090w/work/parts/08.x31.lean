set_option maxRecDepth 100000
theorem dX3_eats_11 : decode cX3_eats 11 = .ok (.aload_n 0, 1) := dk_42 (dk_at dksX3_eats_0 11 rfl rfl)
theorem dX3_eats_12 : decode cX3_eats 12 = .ok (.getfield 7, 3) := dk_180 0 7 (dk_at dksX3_eats_0 12 rfl rfl)
theorem dX3_eats_15 : decode cX3_eats 15 = .ok (.sipush 262, 3) := dk_17 1 6 (dk_at dksX3_eats_0 15 rfl rfl)
theorem dX3_eats_18 : decode cX3_eats 18 = .ok (.iload_n 1, 1) := dk_27 (dk_at dksX3_eats_0 18 rfl rfl)
theorem dX3_eats_19 : decode cX3_eats 19 = .ok (.iadd, 1) := dk_96 (dk_at dksX3_eats_0 19 rfl rfl)
theorem dX3_eats_20 : decode cX3_eats 20 = .ok (.iaload, 1) := dk_46 (dk_at dksX3_eats_0 20 rfl rfl)
theorem dX3_eats_21 : decode cX3_eats 21 = .ok (.aload_n 0, 1) := dk_42 (dk_at dksX3_eats_0 21 rfl rfl)
theorem dX3_eats_22 : decode cX3_eats 22 = .ok (.getfield 29, 3) := dk_180 0 29 (dk_at dksX3_eats_1 0 rfl rfl)
theorem dX3_eats_25 : decode cX3_eats 25 = .ok (.iload_n 3, 1) := dk_29 (dk_at dksX3_eats_1 3 rfl rfl)
theorem dX3_eats_26 : decode cX3_eats 26 = .ok (.iaload, 1) := dk_46 (dk_at dksX3_eats_1 4 rfl rfl)
theorem dX3_eats_27 : decode cX3_eats 27 = .ok (.aload_n 0, 1) := dk_42 (dk_at dksX3_eats_1 5 rfl rfl)
theorem dX3_eats_28 : decode cX3_eats 28 = .ok (.getfield 7, 3) := dk_180 0 7 (dk_at dksX3_eats_1 6 rfl rfl)
theorem dX3_eats_31 : decode cX3_eats 31 = .ok (.bipush 64, 2) := dk_16 64 (dk_at dksX3_eats_1 9 rfl rfl)
theorem dX3_eats_33 : decode cX3_eats 33 = .ok (.iload_n 2, 1) := dk_28 (dk_at dksX3_eats_1 11 rfl rfl)
theorem dX3_eats_34 : decode cX3_eats 34 = .ok (.iadd, 1) := dk_96 (dk_at dksX3_eats_1 12 rfl rfl)
theorem dX3_eats_35 : decode cX3_eats 35 = .ok (.iaload, 1) := dk_46 (dk_at dksX3_eats_1 13 rfl rfl)
theorem dX3_eats_36 : decode cX3_eats 36 = .ok (.imul, 1) := dk_104 (dk_at dksX3_eats_1 14 rfl rfl)
theorem dX3_eats_37 : decode cX3_eats 37 = .ok (.bipush 9, 2) := dk_16 9 (dk_at dksX3_eats_1 15 rfl rfl)
theorem dX3_eats_39 : decode cX3_eats 39 = .ok (.iadd, 1) := dk_96 (dk_at dksX3_eats_1 17 rfl rfl)
theorem dX3_eats_40 : decode cX3_eats 40 = .ok (.bipush 10, 2) := dk_16 10 (dk_at dksX3_eats_1 18 rfl rfl)
theorem dX3_eats_42 : decode cX3_eats 42 = .ok (.idiv, 1) := dk_108 (dk_at dksX3_eats_1 20 rfl rfl)
theorem dX3_eats_43 : decode cX3_eats 43 = .ok (.iadd, 1) := dk_96 (dk_at dksX3_eats_1 21 rfl rfl)
theorem dX3_eats_44 : decode cX3_eats 44 = .ok (.istore 4, 2) := dk_54 4 (dk_at dksX3_eats_1 22 rfl rfl)
theorem dX3_eats_46 : decode cX3_eats 46 = .ok (.iload 4, 2) := dk_21 4 (dk_at dksX3_eats_2 0 rfl rfl)
theorem dX3_eats_48 : decode cX3_eats 48 = .ok (.bipush 99, 2) := dk_16 99 (dk_at dksX3_eats_2 2 rfl rfl)
theorem dX3_eats_50 : decode cX3_eats 50 = .ok (.if_icmp .le 8, 3) := dk_164 0 8 (dk_at dksX3_eats_2 4 rfl rfl)
theorem dX3_eats_53 : decode cX3_eats 53 = .ok (.bipush 99, 2) := dk_16 99 (dk_at dksX3_eats_2 7 rfl rfl)
theorem dX3_eats_55 : decode cX3_eats 55 = .ok (.goto 5, 3) := dk_167 0 5 (dk_at dksX3_eats_2 9 rfl rfl)
theorem dX3_eats_58 : decode cX3_eats 58 = .ok (.iload 4, 2) := dk_21 4 (dk_at dksX3_eats_2 12 rfl rfl)
theorem dX3_eats_60 : decode cX3_eats 60 = .ok (.istore 4, 2) := dk_54 4 (dk_at dksX3_eats_2 14 rfl rfl)
theorem dX3_eats_62 : decode cX3_eats 62 = .ok (.aload_n 0, 1) := dk_42 (dk_at dksX3_eats_2 16 rfl rfl)
theorem dX3_eats_63 : decode cX3_eats 63 = .ok (.getfield 7, 3) := dk_180 0 7 (dk_at dksX3_eats_2 17 rfl rfl)
theorem dX3_eats_66 : decode cX3_eats 66 = .ok (.sipush 262, 3) := dk_17 1 6 (dk_at dksX3_eats_2 20 rfl rfl)
theorem dX3_eats_69 : decode cX3_eats 69 = .ok (.iload_n 1, 1) := dk_27 (dk_at dksX3_eats_2 23 rfl rfl)
theorem dX3_eats_70 : decode cX3_eats 70 = .ok (.iadd, 1) := dk_96 (dk_at dksX3_eats_3 0 rfl rfl)
theorem dX3_eats_71 : decode cX3_eats 71 = .ok (.aload_n 0, 1) := dk_42 (dk_at dksX3_eats_3 1 rfl rfl)
theorem dX3_eats_72 : decode cX3_eats 72 = .ok (.getfield 32, 3) := dk_180 0 32 (dk_at dksX3_eats_3 2 rfl rfl)
theorem dX3_eats_75 : decode cX3_eats 75 = .ok (.iload_n 3, 1) := dk_29 (dk_at dksX3_eats_3 5 rfl rfl)
theorem dX3_eats_76 : decode cX3_eats 76 = .ok (.iaload, 1) := dk_46 (dk_at dksX3_eats_3 6 rfl rfl)
theorem dX3_eats_77 : decode cX3_eats 77 = .ok (.iconst (-1), 1) := dk_2 (dk_at dksX3_eats_3 7 rfl rfl)
theorem dX3_eats_78 : decode cX3_eats 78 = .ok (.if_icmp .eq 24, 3) := dk_159 0 24 (dk_at dksX3_eats_3 8 rfl rfl)
theorem dX3_eats_81 : decode cX3_eats 81 = .ok (.aload_n 0, 1) := dk_42 (dk_at dksX3_eats_3 11 rfl rfl)
theorem dX3_eats_82 : decode cX3_eats 82 = .ok (.getfield 29, 3) := dk_180 0 29 (dk_at dksX3_eats_3 12 rfl rfl)
theorem dX3_eats_85 : decode cX3_eats 85 = .ok (.aload_n 0, 1) := dk_42 (dk_at dksX3_eats_3 15 rfl rfl)
theorem dX3_eats_86 : decode cX3_eats 86 = .ok (.getfield 32, 3) := dk_180 0 32 (dk_at dksX3_eats_3 16 rfl rfl)
theorem dX3_eats_89 : decode cX3_eats 89 = .ok (.iload_n 3, 1) := dk_29 (dk_at dksX3_eats_3 19 rfl rfl)
theorem dX3_eats_90 : decode cX3_eats 90 = .ok (.iaload, 1) := dk_46 (dk_at dksX3_eats_3 20 rfl rfl)
theorem dX3_eats_91 : decode cX3_eats 91 = .ok (.iaload, 1) := dk_46 (dk_at dksX3_eats_3 21 rfl rfl)
theorem dX3_eats_92 : decode cX3_eats 92 = .ok (.ifCond .le 10, 3) := dk_158 0 10 (dk_at dksX3_eats_4 0 rfl rfl)
theorem dX3_eats_95 : decode cX3_eats 95 = .ok (.iload 4, 2) := dk_21 4 (dk_at dksX3_eats_4 3 rfl rfl)
theorem dX3_eats_97 : decode cX3_eats 97 = .ok (.iconst 2, 1) := dk_5 (dk_at dksX3_eats_4 5 rfl rfl)
theorem dX3_eats_98 : decode cX3_eats 98 = .ok (.idiv, 1) := dk_108 (dk_at dksX3_eats_4 6 rfl rfl)
theorem dX3_eats_99 : decode cX3_eats 99 = .ok (.goto 5, 3) := dk_167 0 5 (dk_at dksX3_eats_4 7 rfl rfl)
theorem dX3_eats_102 : decode cX3_eats 102 = .ok (.iload 4, 2) := dk_21 4 (dk_at dksX3_eats_4 10 rfl rfl)
theorem dX3_eats_104 : decode cX3_eats 104 = .ok (.iastore, 1) := dk_79 (dk_at dksX3_eats_4 12 rfl rfl)
theorem dX3_eats_105 : decode cX3_eats 105 = .ok (.aload_n 0, 1) := dk_42 (dk_at dksX3_eats_4 13 rfl rfl)
theorem dX3_eats_106 : decode cX3_eats 106 = .ok (.getfield 7, 3) := dk_180 0 7 (dk_at dksX3_eats_4 14 rfl rfl)
theorem dX3_eats_109 : decode cX3_eats 109 = .ok (.iconst 0, 1) := dk_3 (dk_at dksX3_eats_4 17 rfl rfl)
theorem dX3_eats_110 : decode cX3_eats 110 = .ok (.iload_n 2, 1) := dk_28 (dk_at dksX3_eats_4 18 rfl rfl)
theorem dX3_eats_111 : decode cX3_eats 111 = .ok (.iadd, 1) := dk_96 (dk_at dksX3_eats_4 19 rfl rfl)
theorem dX3_eats_112 : decode cX3_eats 112 = .ok (.iconst 0, 1) := dk_3 (dk_at dksX3_eats_4 20 rfl rfl)
theorem dX3_eats_113 : decode cX3_eats 113 = .ok (.iastore, 1) := dk_79 (dk_at dksX3_eats_4 21 rfl rfl)
theorem dX3_eats_114 : decode cX3_eats 114 = .ok (.return_, 1) := dk_177 (dk_at dksX3_eats_4 22 rfl rfl)
abbrev cX3_feed : ByteArray := prog_14_method_26_code
def yX3_feed : MethodName := ⟨RX3, "feed", "(IIIII)I"⟩
def dkwX3_feed_2 : List UInt8 := [172]
abbrev dktX3_feed_2 : List UInt8 := dkwX3_feed_2 ++ []
def dkwX3_feed_1 : List UInt8 := [182, 0, 156, 42, 29, 182, 0, 156, 42, 21, 4, 182, 0, 156, 42, 21, 5, 182, 0, 156, 42, 180, 0, 153]
abbrev dktX3_feed_1 : List UInt8 := dkwX3_feed_1 ++ dktX3_feed_2
def dkwX3_feed_0 : List UInt8 := [42, 3, 181, 0, 86, 42, 180, 0, 153, 17, 1, 124, 164, 0, 5, 2, 172, 42, 27, 182, 0, 156, 42, 28]
abbrev dktX3_feed_0 : List UInt8 := dkwX3_feed_0 ++ dktX3_feed_1
theorem dksX3_feed_0 : cX3_feed.data.toList.drop 0 = dktX3_feed_0 := by decide +kernel
theorem dksX3_feed_1 : cX3_feed.data.toList.drop 24 = dktX3_feed_1 := dk_seg dksX3_feed_0 24 rfl rfl
theorem dksX3_feed_2 : cX3_feed.data.toList.drop 48 = dktX3_feed_2 := dk_seg dksX3_feed_1 24 rfl rfl
theorem dX3_feed_0 : decode cX3_feed 0 = .ok (.aload_n 0, 1) := dk_42 (dk_at dksX3_feed_0 0 rfl rfl)
theorem dX3_feed_1 : decode cX3_feed 1 = .ok (.iconst 0, 1) := dk_3 (dk_at dksX3_feed_0 1 rfl rfl)
theorem dX3_feed_2 : decode cX3_feed 2 = .ok (.putfield 86, 3) := dk_181 0 86 (dk_at dksX3_feed_0 2 rfl rfl)
theorem dX3_feed_5 : decode cX3_feed 5 = .ok (.aload_n 0, 1) := dk_42 (dk_at dksX3_feed_0 5 rfl rfl)
theorem dX3_feed_6 : decode cX3_feed 6 = .ok (.getfield 153, 3) := dk_180 0 153 (dk_at dksX3_feed_0 6 rfl rfl)
theorem dX3_feed_9 : decode cX3_feed 9 = .ok (.sipush 380, 3) := dk_17 1 124 (dk_at dksX3_feed_0 9 rfl rfl)
theorem dX3_feed_12 : decode cX3_feed 12 = .ok (.if_icmp .le 5, 3) := dk_164 0 5 (dk_at dksX3_feed_0 12 rfl rfl)
theorem dX3_feed_15 : decode cX3_feed 15 = .ok (.iconst (-1), 1) := dk_2 (dk_at dksX3_feed_0 15 rfl rfl)
theorem dX3_feed_16 : decode cX3_feed 16 = .ok (.ireturn, 1) := dk_172 (dk_at dksX3_feed_0 16 rfl rfl)
theorem dX3_feed_17 : decode cX3_feed 17 = .ok (.aload_n 0, 1) := dk_42 (dk_at dksX3_feed_0 17 rfl rfl)
theorem dX3_feed_18 : decode cX3_feed 18 = .ok (.iload_n 1, 1) := dk_27 (dk_at dksX3_feed_0 18 rfl rfl)
theorem dX3_feed_19 : decode cX3_feed 19 = .ok (.invokevirtual 156, 3) := dk_182 0 156 (dk_at dksX3_feed_0 19 rfl rfl)
theorem dX3_feed_22 : decode cX3_feed 22 = .ok (.aload_n 0, 1) := dk_42 (dk_at dksX3_feed_0 22 rfl rfl)
theorem dX3_feed_23 : decode cX3_feed 23 = .ok (.iload_n 2, 1) := dk_28 (dk_at dksX3_feed_0 23 rfl rfl)
theorem dX3_feed_24 : decode cX3_feed 24 = .ok (.invokevirtual 156, 3) := dk_182 0 156 (dk_at dksX3_feed_1 0 rfl rfl)
theorem dX3_feed_27 : decode cX3_feed 27 = .ok (.aload_n 0, 1) := dk_42 (dk_at dksX3_feed_1 3 rfl rfl)
theorem dX3_feed_28 : decode cX3_feed 28 = .ok (.iload_n 3, 1) := dk_29 (dk_at dksX3_feed_1 4 rfl rfl)
theorem dX3_feed_29 : decode cX3_feed 29 = .ok (.invokevirtual 156, 3) := dk_182 0 156 (dk_at dksX3_feed_1 5 rfl rfl)
theorem dX3_feed_32 : decode cX3_feed 32 = .ok (.aload_n 0, 1) := dk_42 (dk_at dksX3_feed_1 8 rfl rfl)
theorem dX3_feed_33 : decode cX3_feed 33 = .ok (.iload 4, 2) := dk_21 4 (dk_at dksX3_feed_1 9 rfl rfl)
theorem dX3_feed_35 : decode cX3_feed 35 = .ok (.invokevirtual 156, 3) := dk_182 0 156 (dk_at dksX3_feed_1 11 rfl rfl)
theorem dX3_feed_38 : decode cX3_feed 38 = .ok (.aload_n 0, 1) := dk_42 (dk_at dksX3_feed_1 14 rfl rfl)
theorem dX3_feed_39 : decode cX3_feed 39 = .ok (.iload 5, 2) := dk_21 5 (dk_at dksX3_feed_1 15 rfl rfl)
theorem dX3_feed_41 : decode cX3_feed 41 = .ok (.invokevirtual 156, 3) := dk_182 0 156 (dk_at dksX3_feed_1 17 rfl rfl)
theorem dX3_feed_44 : decode cX3_feed 44 = .ok (.aload_n 0, 1) := dk_42 (dk_at dksX3_feed_1 20 rfl rfl)
theorem dX3_feed_45 : decode cX3_feed 45 = .ok (.getfield 153, 3) := dk_180 0 153 (dk_at dksX3_feed_1 21 rfl rfl)
theorem dX3_feed_48 : decode cX3_feed 48 = .ok (.ireturn, 1) := dk_172 (dk_at dksX3_feed_2 0 rfl rfl)
abbrev cX3_types : ByteArray := prog_14_method_25_code
def yX3_types : MethodName := ⟨RX3, "types", "(I)V"⟩
def dkwX3_types_1 : List UInt8 := [42, 180, 0, 153, 4, 96, 181, 0, 153, 132, 2, 248, 167, 255, 223, 177]
abbrev dktX3_types_1 : List UInt8 := dkwX3_types_1 ++ []
def dkwX3_types_0 : List UInt8 := [16, 24, 61, 28, 155, 0, 35, 42, 180, 0, 38, 42, 180, 0, 153, 27, 28, 122, 17, 0, 255, 126, 79, 42]
abbrev dktX3_types_0 : List UInt8 := dkwX3_types_0 ++ dktX3_types_1
theorem dksX3_types_0 : cX3_types.data.toList.drop 0 = dktX3_types_0 := by decide +kernel
theorem dksX3_types_1 : cX3_types.data.toList.drop 24 = dktX3_types_1 := dk_seg dksX3_types_0 24 rfl rfl
theorem dX3_types_0 : decode cX3_types 0 = .ok (.bipush 24, 2) := dk_16 24 (dk_at dksX3_types_0 0 rfl rfl)
theorem dX3_types_2 : decode cX3_types 2 = .ok (.istore_n 2, 1) := dk_61 (dk_at dksX3_types_0 2 rfl rfl)
theorem dX3_types_3 : decode cX3_types 3 = .ok (.iload_n 2, 1) := dk_28 (dk_at dksX3_types_0 3 rfl rfl)
theorem dX3_types_4 : decode cX3_types 4 = .ok (.ifCond .lt 35, 3) := dk_155 0 35 (dk_at dksX3_types_0 4 rfl rfl)
theorem dX3_types_7 : decode cX3_types 7 = .ok (.aload_n 0, 1) := dk_42 (dk_at dksX3_types_0 7 rfl rfl)
theorem dX3_types_8 : decode cX3_types 8 = .ok (.getfield 38, 3) := dk_180 0 38 (dk_at dksX3_types_0 8 rfl rfl)
theorem dX3_types_11 : decode cX3_types 11 = .ok (.aload_n 0, 1) := dk_42 (dk_at dksX3_types_0 11 rfl rfl)
theorem dX3_types_12 : decode cX3_types 12 = .ok (.getfield 153, 3) := dk_180 0 153 (dk_at dksX3_types_0 12 rfl rfl)
theorem dX3_types_15 : decode cX3_types 15 = .ok (.iload_n 1, 1) := dk_27 (dk_at dksX3_types_0 15 rfl rfl)
theorem dX3_types_16 : decode cX3_types 16 = .ok (.iload_n 2, 1) := dk_28 (dk_at dksX3_types_0 16 rfl rfl)
theorem dX3_types_17 : decode cX3_types 17 = .ok (.ishr, 1) := dk_122 (dk_at dksX3_types_0 17 rfl rfl)
theorem dX3_types_18 : decode cX3_types 18 = .ok (.sipush 255, 3) := dk_17 0 255 (dk_at dksX3_types_0 18 rfl rfl)
theorem dX3_types_21 : decode cX3_types 21 = .ok (.iand, 1) := dk_126 (dk_at dksX3_types_0 21 rfl rfl)
theorem dX3_types_22 : decode cX3_types 22 = .ok (.iastore, 1) := dk_79 (dk_at dksX3_types_0 22 rfl rfl)
theorem dX3_types_23 : decode cX3_types 23 = .ok (.aload_n 0, 1) := dk_42 (dk_at dksX3_types_0 23 rfl rfl)
theorem dX3_types_24 : decode cX3_types 24 = .ok (.aload_n 0, 1) := dk_42 (dk_at dksX3_types_1 0 rfl rfl)
theorem dX3_types_25 : decode cX3_types 25 = .ok (.getfield 153, 3) := dk_180 0 153 (dk_at dksX3_types_1 1 rfl rfl)
theorem dX3_types_28 : decode cX3_types 28 = .ok (.iconst 1, 1) := dk_4 (dk_at dksX3_types_1 4 rfl rfl)
theorem dX3_types_29 : decode cX3_types 29 = .ok (.iadd, 1) := dk_96 (dk_at dksX3_types_1 5 rfl rfl)
theorem dX3_types_30 : decode cX3_types 30 = .ok (.putfield 153, 3) := dk_181 0 153 (dk_at dksX3_types_1 6 rfl rfl)
theorem dX3_types_33 : decode cX3_types 33 = .ok (.iinc 2 (-8), 3) := dk_132 2 248 (dk_at dksX3_types_1 9 rfl rfl)
theorem dX3_types_36 : decode cX3_types 36 = .ok (.goto (-33), 3) := dk_167 255 223 (dk_at dksX3_types_1 12 rfl rfl)
theorem dX3_types_39 : decode cX3_types 39 = .ok (.return_, 1) := dk_177 (dk_at dksX3_types_1 15 rfl rfl)
abbrev cX3_end : ByteArray := prog_14_method_27_code
def yX3_end : MethodName := ⟨RX3, "end", "(I)Z"⟩
def dkwX3_end_1 : List UInt8 := [181, 0, 153, 4, 172]
abbrev dktX3_end_1 : List UInt8 := dkwX3_end_1 ++ []
def dkwX3_end_0 : List UInt8 := [42, 3, 181, 0, 86, 42, 27, 3, 42, 180, 0, 153, 182, 0, 107, 154, 0, 5, 3, 172, 42, 27]
abbrev dktX3_end_0 : List UInt8 := dkwX3_end_0 ++ dktX3_end_1
theorem dksX3_end_0 : cX3_end.data.toList.drop 0 = dktX3_end_0 := by decide +kernel
theorem dksX3_end_1 : cX3_end.data.toList.drop 22 = dktX3_end_1 := dk_seg dksX3_end_0 22 rfl rfl
theorem dX3_end_0 : decode cX3_end 0 = .ok (.aload_n 0, 1) := dk_42 (dk_at dksX3_end_0 0 rfl rfl)
theorem dX3_end_1 : decode cX3_end 1 = .ok (.iconst 0, 1) := dk_3 (dk_at dksX3_end_0 1 rfl rfl)
theorem dX3_end_2 : decode cX3_end 2 = .ok (.putfield 86, 3) := dk_181 0 86 (dk_at dksX3_end_0 2 rfl rfl)
theorem dX3_end_5 : decode cX3_end 5 = .ok (.aload_n 0, 1) := dk_42 (dk_at dksX3_end_0 5 rfl rfl)
theorem dX3_end_6 : decode cX3_end 6 = .ok (.iload_n 1, 1) := dk_27 (dk_at dksX3_end_0 6 rfl rfl)
theorem dX3_end_7 : decode cX3_end 7 = .ok (.iconst 0, 1) := dk_3 (dk_at dksX3_end_0 7 rfl rfl)
theorem dX3_end_8 : decode cX3_end 8 = .ok (.aload_n 0, 1) := dk_42 (dk_at dksX3_end_0 8 rfl rfl)
theorem dX3_end_9 : decode cX3_end 9 = .ok (.getfield 153, 3) := dk_180 0 153 (dk_at dksX3_end_0 9 rfl rfl)
theorem dX3_end_12 : decode cX3_end 12 = .ok (.invokevirtual 107, 3) := dk_182 0 107 (dk_at dksX3_end_0 12 rfl rfl)
theorem dX3_end_15 : decode cX3_end 15 = .ok (.ifCond .ne 5, 3) := dk_154 0 5 (dk_at dksX3_end_0 15 rfl rfl)
theorem dX3_end_18 : decode cX3_end 18 = .ok (.iconst 0, 1) := dk_3 (dk_at dksX3_end_0 18 rfl rfl)
theorem dX3_end_19 : decode cX3_end 19 = .ok (.ireturn, 1) := dk_172 (dk_at dksX3_end_0 19 rfl rfl)
theorem dX3_end_20 : decode cX3_end 20 = .ok (.aload_n 0, 1) := dk_42 (dk_at dksX3_end_0 20 rfl rfl)
theorem dX3_end_21 : decode cX3_end 21 = .ok (.iload_n 1, 1) := dk_27 (dk_at dksX3_end_0 21 rfl rfl)
theorem dX3_end_22 : decode cX3_end 22 = .ok (.putfield 153, 3) := dk_181 0 153 (dk_at dksX3_end_1 0 rfl rfl)
theorem dX3_end_25 : decode cX3_end 25 = .ok (.iconst 1, 1) := dk_4 (dk_at dksX3_end_1 3 rfl rfl)
theorem dX3_end_26 : decode cX3_end 26 = .ok (.ireturn, 1) := dk_172 (dk_at dksX3_end_1 4 rfl rfl)
abbrev cX3_text : ByteArray := prog_14_method_46_code
def yX3_text : MethodName := ⟨RX3, "text", "()I"⟩
def dkwX3_text_7 : List UInt8 := [46, 79, 132, 2, 1, 167, 255, 213, 42, 27, 181, 0, 126, 27, 172]
abbrev dktX3_text_7 : List UInt8 := dkwX3_text_7 ++ []
def dkwX3_text_6 : List UInt8 := [180, 0, 53, 17, 1, 144, 28, 96, 46, 79, 42, 180, 0, 56, 28, 42, 180, 0, 56, 17, 1, 144, 28, 96]
abbrev dktX3_text_6 : List UInt8 := dkwX3_text_6 ++ dktX3_text_7
def dkwX3_text_5 : List UInt8 := [79, 132, 2, 1, 167, 255, 203, 3, 61, 28, 42, 180, 0, 194, 162, 0, 41, 42, 180, 0, 53, 28, 42]
abbrev dktX3_text_5 : List UInt8 := dkwX3_text_5 ++ dktX3_text_6
def dkwX3_text_4 : List UInt8 := [42, 180, 0, 47, 16, 16, 28, 96, 46, 79, 42, 180, 0, 50, 28, 42, 180, 0, 50, 16, 16, 28, 96, 46]
abbrev dktX3_text_4 : List UInt8 := dkwX3_text_4 ++ dktX3_text_5
def dkwX3_text_3 : List UInt8 := [27, 162, 0, 54, 42, 180, 0, 44, 28, 42, 180, 0, 44, 16, 16, 28, 96, 46, 79, 42, 180, 0, 47, 28]
abbrev dktX3_text_3 : List UInt8 := dkwX3_text_3 ++ dktX3_text_4
def dkwX3_text_2 : List UInt8 := [160, 0, 21, 42, 42, 180, 0, 188, 181, 0, 240, 42, 42, 180, 0, 191, 181, 0, 62, 2, 172, 3, 61, 28]
abbrev dktX3_text_2 : List UInt8 := dkwX3_text_2 ++ dktX3_text_3
def dkwX3_text_1 : List UInt8 := [181, 0, 194, 42, 3, 181, 0, 222, 42, 182, 0, 203, 42, 182, 0, 243, 60, 42, 3, 181, 0, 153, 27, 2]
abbrev dktX3_text_1 : List UInt8 := dkwX3_text_1 ++ dktX3_text_2
def dkwX3_text_0 : List UInt8 := [42, 3, 181, 0, 86, 42, 3, 181, 0, 240, 42, 2, 181, 0, 62, 42, 3, 181, 0, 160, 42, 3]
abbrev dktX3_text_0 : List UInt8 := dkwX3_text_0 ++ dktX3_text_1
theorem dksX3_text_0 : cX3_text.data.toList.drop 0 = dktX3_text_0 := by decide +kernel
theorem dksX3_text_1 : cX3_text.data.toList.drop 22 = dktX3_text_1 := dk_seg dksX3_text_0 22 rfl rfl
theorem dksX3_text_2 : cX3_text.data.toList.drop 46 = dktX3_text_2 := dk_seg dksX3_text_1 24 rfl rfl
theorem dksX3_text_3 : cX3_text.data.toList.drop 70 = dktX3_text_3 := dk_seg dksX3_text_2 24 rfl rfl
theorem dksX3_text_4 : cX3_text.data.toList.drop 94 = dktX3_text_4 := dk_seg dksX3_text_3 24 rfl rfl
theorem dksX3_text_5 : cX3_text.data.toList.drop 118 = dktX3_text_5 := dk_seg dksX3_text_4 24 rfl rfl
theorem dksX3_text_6 : cX3_text.data.toList.drop 141 = dktX3_text_6 := dk_seg dksX3_text_5 23 rfl rfl
theorem dksX3_text_7 : cX3_text.data.toList.drop 165 = dktX3_text_7 := dk_seg dksX3_text_6 24 rfl rfl
theorem dX3_text_0 : decode cX3_text 0 = .ok (.aload_n 0, 1) := dk_42 (dk_at dksX3_text_0 0 rfl rfl)
theorem dX3_text_1 : decode cX3_text 1 = .ok (.iconst 0, 1) := dk_3 (dk_at dksX3_text_0 1 rfl rfl)
theorem dX3_text_2 : decode cX3_text 2 = .ok (.putfield 86, 3) := dk_181 0 86 (dk_at dksX3_text_0 2 rfl rfl)
theorem dX3_text_5 : decode cX3_text 5 = .ok (.aload_n 0, 1) := dk_42 (dk_at dksX3_text_0 5 rfl rfl)
theorem dX3_text_6 : decode cX3_text 6 = .ok (.iconst 0, 1) := dk_3 (dk_at dksX3_text_0 6 rfl rfl)
theorem dX3_text_7 : decode cX3_text 7 = .ok (.putfield 240, 3) := dk_181 0 240 (dk_at dksX3_text_0 7 rfl rfl)
theorem dX3_text_10 : decode cX3_text 10 = .ok (.aload_n 0, 1) := dk_42 (dk_at dksX3_text_0 10 rfl rfl)
theorem dX3_text_11 : decode cX3_text 11 = .ok (.iconst (-1), 1) := dk_2 (dk_at dksX3_text_0 11 rfl rfl)
theorem dX3_text_12 : decode cX3_text 12 = .ok (.putfield 62, 3) := dk_181 0 62 (dk_at dksX3_text_0 12 rfl rfl)
theorem dX3_text_15 : decode cX3_text 15 = .ok (.aload_n 0, 1) := dk_42 (dk_at dksX3_text_0 15 rfl rfl)
theorem dX3_text_16 : decode cX3_text 16 = .ok (.iconst 0, 1) := dk_3 (dk_at dksX3_text_0 16 rfl rfl)
theorem dX3_text_17 : decode cX3_text 17 = .ok (.putfield 160, 3) := dk_181 0 160 (dk_at dksX3_text_0 17 rfl rfl)
theorem dX3_text_20 : decode cX3_text 20 = .ok (.aload_n 0, 1) := dk_42 (dk_at dksX3_text_0 20 rfl rfl)
theorem dX3_text_21 : decode cX3_text 21 = .ok (.iconst 0, 1) := dk_3 (dk_at dksX3_text_0 21 rfl rfl)
theorem dX3_text_22 : decode cX3_text 22 = .ok (.putfield 194, 3) := dk_181 0 194 (dk_at dksX3_text_1 0 rfl rfl)
theorem dX3_text_25 : decode cX3_text 25 = .ok (.aload_n 0, 1) := dk_42 (dk_at dksX3_text_1 3 rfl rfl)
theorem dX3_text_26 : decode cX3_text 26 = .ok (.iconst 0, 1) := dk_3 (dk_at dksX3_text_1 4 rfl rfl)
theorem dX3_text_27 : decode cX3_text 27 = .ok (.putfield 222, 3) := dk_181 0 222 (dk_at dksX3_text_1 5 rfl rfl)
theorem dX3_text_30 : decode cX3_text 30 = .ok (.aload_n 0, 1) := dk_42 (dk_at dksX3_text_1 8 rfl rfl)
theorem dX3_text_31 : decode cX3_text 31 = .ok (.invokevirtual 203, 3) := dk_182 0 203 (dk_at dksX3_text_1 9 rfl rfl)
theorem dX3_text_34 : decode cX3_text 34 = .ok (.aload_n 0, 1) := dk_42 (dk_at dksX3_text_1 12 rfl rfl)
theorem dX3_text_35 : decode cX3_text 35 = .ok (.invokevirtual 243, 3) := dk_182 0 243 (dk_at dksX3_text_1 13 rfl rfl)
theorem dX3_text_38 : decode cX3_text 38 = .ok (.istore_n 1, 1) := dk_60 (dk_at dksX3_text_1 16 rfl rfl)
theorem dX3_text_39 : decode cX3_text 39 = .ok (.aload_n 0, 1) := dk_42 (dk_at dksX3_text_1 17 rfl rfl)
theorem dX3_text_40 : decode cX3_text 40 = .ok (.iconst 0, 1) := dk_3 (dk_at dksX3_text_1 18 rfl rfl)
theorem dX3_text_41 : decode cX3_text 41 = .ok (.putfield 153, 3) := dk_181 0 153 (dk_at dksX3_text_1 19 rfl rfl)
theorem dX3_text_44 : decode cX3_text 44 = .ok (.iload_n 1, 1) := dk_27 (dk_at dksX3_text_1 22 rfl rfl)
theorem dX3_text_45 : decode cX3_text 45 = .ok (.iconst (-1), 1) := dk_2 (dk_at dksX3_text_1 23 rfl rfl)
theorem dX3_text_46 : decode cX3_text 46 = .ok (.if_icmp .ne 21, 3) := dk_160 0 21 (dk_at dksX3_text_2 0 rfl rfl)
theorem dX3_text_49 : decode cX3_text 49 = .ok (.aload_n 0, 1) := dk_42 (dk_at dksX3_text_2 3 rfl rfl)
theorem dX3_text_50 : decode cX3_text 50 = .ok (.aload_n 0, 1) := dk_42 (dk_at dksX3_text_2 4 rfl rfl)
theorem dX3_text_51 : decode cX3_text 51 = .ok (.getfield 188, 3) := dk_180 0 188 (dk_at dksX3_text_2 5 rfl rfl)
theorem dX3_text_54 : decode cX3_text 54 = .ok (.putfield 240, 3) := dk_181 0 240 (dk_at dksX3_text_2 8 rfl rfl)
theorem dX3_text_57 : decode cX3_text 57 = .ok (.aload_n 0, 1) := dk_42 (dk_at dksX3_text_2 11 rfl rfl)
theorem dX3_text_58 : decode cX3_text 58 = .ok (.aload_n 0, 1) := dk_42 (dk_at dksX3_text_2 12 rfl rfl)
theorem dX3_text_59 : decode cX3_text 59 = .ok (.getfield 191, 3) := dk_180 0 191 (dk_at dksX3_text_2 13 rfl rfl)
theorem dX3_text_62 : decode cX3_text 62 = .ok (.putfield 62, 3) := dk_181 0 62 (dk_at dksX3_text_2 16 rfl rfl)
theorem dX3_text_65 : decode cX3_text 65 = .ok (.iconst (-1), 1) := dk_2 (dk_at dksX3_text_2 19 rfl rfl)
theorem dX3_text_66 : decode cX3_text 66 = .ok (.ireturn, 1) := dk_172 (dk_at dksX3_text_2 20 rfl rfl)
theorem dX3_text_67 : decode cX3_text 67 = .ok (.iconst 0, 1) := dk_3 (dk_at dksX3_text_2 21 rfl rfl)
theorem dX3_text_68 : decode cX3_text 68 = .ok (.istore_n 2, 1) := dk_61 (dk_at dksX3_text_2 22 rfl rfl)
theorem dX3_text_69 : decode cX3_text 69 = .ok (.iload_n 2, 1) := dk_28 (dk_at dksX3_text_2 23 rfl rfl)
theorem dX3_text_70 : decode cX3_text 70 = .ok (.iload_n 1, 1) := dk_27 (dk_at dksX3_text_3 0 rfl rfl)
theorem dX3_text_71 : decode cX3_text 71 = .ok (.if_icmp .ge 54, 3) := dk_162 0 54 (dk_at dksX3_text_3 1 rfl rfl)
theorem dX3_text_74 : decode cX3_text 74 = .ok (.aload_n 0, 1) := dk_42 (dk_at dksX3_text_3 4 rfl rfl)
theorem dX3_text_75 : decode cX3_text 75 = .ok (.getfield 44, 3) := dk_180 0 44 (dk_at dksX3_text_3 5 rfl rfl)
theorem dX3_text_78 : decode cX3_text 78 = .ok (.iload_n 2, 1) := dk_28 (dk_at dksX3_text_3 8 rfl rfl)
theorem dX3_text_79 : decode cX3_text 79 = .ok (.aload_n 0, 1) := dk_42 (dk_at dksX3_text_3 9 rfl rfl)
theorem dX3_text_80 : decode cX3_text 80 = .ok (.getfield 44, 3) := dk_180 0 44 (dk_at dksX3_text_3 10 rfl rfl)
theorem dX3_text_83 : decode cX3_text 83 = .ok (.bipush 16, 2) := dk_16 16 (dk_at dksX3_text_3 13 rfl rfl)
theorem dX3_text_85 : decode cX3_text 85 = .ok (.iload_n 2, 1) := dk_28 (dk_at dksX3_text_3 15 rfl rfl)
theorem dX3_text_86 : decode cX3_text 86 = .ok (.iadd, 1) := dk_96 (dk_at dksX3_text_3 16 rfl rfl)
theorem dX3_text_87 : decode cX3_text 87 = .ok (.iaload, 1) := dk_46 (dk_at dksX3_text_3 17 rfl rfl)
theorem dX3_text_88 : decode cX3_text 88 = .ok (.iastore, 1) := dk_79 (dk_at dksX3_text_3 18 rfl rfl)
theorem dX3_text_89 : decode cX3_text 89 = .ok (.aload_n 0, 1) := dk_42 (dk_at dksX3_text_3 19 rfl rfl)
theorem dX3_text_90 : decode cX3_text 90 = .ok (.getfield 47, 3) := dk_180 0 47 (dk_at dksX3_text_3 20 rfl rfl)
theorem dX3_text_93 : decode cX3_text 93 = .ok (.iload_n 2, 1) := dk_28 (dk_at dksX3_text_3 23 rfl rfl)
theorem dX3_text_94 : decode cX3_text 94 = .ok (.aload_n 0, 1) := dk_42 (dk_at dksX3_text_4 0 rfl rfl)
theorem dX3_text_95 : decode cX3_text 95 = .ok (.getfield 47, 3) := dk_180 0 47 (dk_at dksX3_text_4 1 rfl rfl)
theorem dX3_text_98 : decode cX3_text 98 = .ok (.bipush 16, 2) := dk_16 16 (dk_at dksX3_text_4 4 rfl rfl)
theorem dX3_text_100 : decode cX3_text 100 = .ok (.iload_n 2, 1) := dk_28 (dk_at dksX3_text_4 6 rfl rfl)
theorem dX3_text_101 : decode cX3_text 101 = .ok (.iadd, 1) := dk_96 (dk_at dksX3_text_4 7 rfl rfl)
theorem dX3_text_102 : decode cX3_text 102 = .ok (.iaload, 1) := dk_46 (dk_at dksX3_text_4 8 rfl rfl)
theorem dX3_text_103 : decode cX3_text 103 = .ok (.iastore, 1) := dk_79 (dk_at dksX3_text_4 9 rfl rfl)
theorem dX3_text_104 : decode cX3_text 104 = .ok (.aload_n 0, 1) := dk_42 (dk_at dksX3_text_4 10 rfl rfl)
theorem dX3_text_105 : decode cX3_text 105 = .ok (.getfield 50, 3) := dk_180 0 50 (dk_at dksX3_text_4 11 rfl rfl)
theorem dX3_text_108 : decode cX3_text 108 = .ok (.iload_n 2, 1) := dk_28 (dk_at dksX3_text_4 14 rfl rfl)
theorem dX3_text_109 : decode cX3_text 109 = .ok (.aload_n 0, 1) := dk_42 (dk_at dksX3_text_4 15 rfl rfl)
theorem dX3_text_110 : decode cX3_text 110 = .ok (.getfield 50, 3) := dk_180 0 50 (dk_at dksX3_text_4 16 rfl rfl)
theorem dX3_text_113 : decode cX3_text 113 = .ok (.bipush 16, 2) := dk_16 16 (dk_at dksX3_text_4 19 rfl rfl)
theorem dX3_text_115 : decode cX3_text 115 = .ok (.iload_n 2, 1) := dk_28 (dk_at dksX3_text_4 21 rfl rfl)
theorem dX3_text_116 : decode cX3_text 116 = .ok (.iadd, 1) := dk_96 (dk_at dksX3_text_4 22 rfl rfl)
theorem dX3_text_117 : decode cX3_text 117 = .ok (.iaload, 1) := dk_46 (dk_at dksX3_text_4 23 rfl rfl)
theorem dX3_text_118 : decode cX3_text 118 = .ok (.iastore, 1) := dk_79 (dk_at dksX3_text_5 0 rfl rfl)
theorem dX3_text_119 : decode cX3_text 119 = .ok (.iinc 2 1, 3) := dk_132 2 1 (dk_at dksX3_text_5 1 rfl rfl)
theorem dX3_text_122 : decode cX3_text 122 = .ok (.goto (-53), 3) := dk_167 255 203 (dk_at dksX3_text_5 4 rfl rfl)
theorem dX3_text_125 : decode cX3_text 125 = .ok (.iconst 0, 1) := dk_3 (dk_at dksX3_text_5 7 rfl rfl)
theorem dX3_text_126 : decode cX3_text 126 = .ok (.istore_n 2, 1) := dk_61 (dk_at dksX3_text_5 8 rfl rfl)
theorem dX3_text_127 : decode cX3_text 127 = .ok (.iload_n 2, 1) := dk_28 (dk_at dksX3_text_5 9 rfl rfl)
theorem dX3_text_128 : decode cX3_text 128 = .ok (.aload_n 0, 1) := dk_42 (dk_at dksX3_text_5 10 rfl rfl)
theorem dX3_text_129 : decode cX3_text 129 = .ok (.getfield 194, 3) := dk_180 0 194 (dk_at dksX3_text_5 11 rfl rfl)
theorem dX3_text_132 : decode cX3_text 132 = .ok (.if_icmp .ge 41, 3) := dk_162 0 41 (dk_at dksX3_text_5 14 rfl rfl)
theorem dX3_text_135 : decode cX3_text 135 = .ok (.aload_n 0, 1) := dk_42 (dk_at dksX3_text_5 17 rfl rfl)
theorem dX3_text_136 : decode cX3_text 136 = .ok (.getfield 53, 3) := dk_180 0 53 (dk_at dksX3_text_5 18 rfl rfl)
theorem dX3_text_139 : decode cX3_text 139 = .ok (.iload_n 2, 1) := dk_28 (dk_at dksX3_text_5 21 rfl rfl)
theorem dX3_text_140 : decode cX3_text 140 = .ok (.aload_n 0, 1) := dk_42 (dk_at dksX3_text_5 22 rfl rfl)
theorem dX3_text_141 : decode cX3_text 141 = .ok (.getfield 53, 3) := dk_180 0 53 (dk_at dksX3_text_6 0 rfl rfl)
theorem dX3_text_144 : decode cX3_text 144 = .ok (.sipush 400, 3) := dk_17 1 144 (dk_at dksX3_text_6 3 rfl rfl)
theorem dX3_text_147 : decode cX3_text 147 = .ok (.iload_n 2, 1) := dk_28 (dk_at dksX3_text_6 6 rfl rfl)
theorem dX3_text_148 : decode cX3_text 148 = .ok (.iadd, 1) := dk_96 (dk_at dksX3_text_6 7 rfl rfl)
theorem dX3_text_149 : decode cX3_text 149 = .ok (.iaload, 1) := dk_46 (dk_at dksX3_text_6 8 rfl rfl)
theorem dX3_text_150 : decode cX3_text 150 = .ok (.iastore, 1) := dk_79 (dk_at dksX3_text_6 9 rfl rfl)
theorem dX3_text_151 : decode cX3_text 151 = .ok (.aload_n 0, 1) := dk_42 (dk_at dksX3_text_6 10 rfl rfl)
theorem dX3_text_152 : decode cX3_text 152 = .ok (.getfield 56, 3) := dk_180 0 56 (dk_at dksX3_text_6 11 rfl rfl)
theorem dX3_text_155 : decode cX3_text 155 = .ok (.iload_n 2, 1) := dk_28 (dk_at dksX3_text_6 14 rfl rfl)
theorem dX3_text_156 : decode cX3_text 156 = .ok (.aload_n 0, 1) := dk_42 (dk_at dksX3_text_6 15 rfl rfl)
theorem dX3_text_157 : decode cX3_text 157 = .ok (.getfield 56, 3) := dk_180 0 56 (dk_at dksX3_text_6 16 rfl rfl)
theorem dX3_text_160 : decode cX3_text 160 = .ok (.sipush 400, 3) := dk_17 1 144 (dk_at dksX3_text_6 19 rfl rfl)
theorem dX3_text_163 : decode cX3_text 163 = .ok (.iload_n 2, 1) := dk_28 (dk_at dksX3_text_6 22 rfl rfl)
theorem dX3_text_164 : decode cX3_text 164 = .ok (.iadd, 1) := dk_96 (dk_at dksX3_text_6 23 rfl rfl)
theorem dX3_text_165 : decode cX3_text 165 = .ok (.iaload, 1) := dk_46 (dk_at dksX3_text_7 0 rfl rfl)
theorem dX3_text_166 : decode cX3_text 166 = .ok (.iastore, 1) := dk_79 (dk_at dksX3_text_7 1 rfl rfl)
theorem dX3_text_167 : decode cX3_text 167 = .ok (.iinc 2 1, 3) := dk_132 2 1 (dk_at dksX3_text_7 2 rfl rfl)
theorem dX3_text_170 : decode cX3_text 170 = .ok (.goto (-43), 3) := dk_167 255 213 (dk_at dksX3_text_7 5 rfl rfl)
theorem dX3_text_173 : decode cX3_text 173 = .ok (.aload_n 0, 1) := dk_42 (dk_at dksX3_text_7 8 rfl rfl)
theorem dX3_text_174 : decode cX3_text 174 = .ok (.iload_n 1, 1) := dk_27 (dk_at dksX3_text_7 9 rfl rfl)
theorem dX3_text_175 : decode cX3_text 175 = .ok (.putfield 126, 3) := dk_181 0 126 (dk_at dksX3_text_7 10 rfl rfl)
theorem dX3_text_178 : decode cX3_text 178 = .ok (.iload_n 1, 1) := dk_27 (dk_at dksX3_text_7 13 rfl rfl)
theorem dX3_text_179 : decode cX3_text 179 = .ok (.ireturn, 1) := dk_172 (dk_at dksX3_text_7 14 rfl rfl)
abbrev cX3_reads : ByteArray := prog_14_method_33_code
def yX3_reads : MethodName := ⟨RX3, "reads", "()V"⟩
def dkwX3_reads_11 : List UInt8 := [42, 27, 182, 0, 185, 153, 0, 8, 42, 7, 181, 0, 169, 177]
abbrev dktX3_reads_11 : List UInt8 := dkwX3_reads_11 ++ []
def dkwX3_reads_10 : List UInt8 := [167, 255, 191, 42, 180, 0, 160, 42, 180, 0, 166, 100, 8, 162, 0, 24, 42, 6, 181, 0, 169, 167, 0, 16]
abbrev dktX3_reads_10 : List UInt8 := dkwX3_reads_10 ++ dktX3_reads_11
def dkwX3_reads_9 : List UInt8 := [96, 16, 48, 100, 167, 0, 7, 42, 180, 0, 172, 181, 0, 172, 42, 42, 180, 0, 160, 4, 96, 181, 0, 160]
abbrev dktX3_reads_9 : List UInt8 := dkwX3_reads_9 ++ dktX3_reads_10
def dkwX3_reads_8 : List UInt8 := [180, 0, 172, 17, 39, 16, 162, 0, 25, 16, 10, 42, 180, 0, 172, 104, 42, 42, 180, 0, 160, 182, 0, 163]
abbrev dktX3_reads_8 : List UInt8 := dkwX3_reads_8 ++ dktX3_reads_9
def dkwX3_reads_7 : List UInt8 := [27, 16, 48, 100, 181, 0, 172, 42, 42, 42, 180, 0, 160, 182, 0, 163, 182, 0, 182, 153, 0, 56, 42, 42]
abbrev dktX3_reads_7 : List UInt8 := dkwX3_reads_7 ++ dktX3_reads_8
def dkwX3_reads_6 : List UInt8 := [180, 0, 172, 2, 159, 0, 129, 42, 5, 181, 0, 169, 167, 0, 121, 42, 27, 182, 0, 182, 153, 0, 100, 42]
abbrev dktX3_reads_6 : List UInt8 := dkwX3_reads_6 ++ dktX3_reads_7
def dkwX3_reads_5 : List UInt8 := [181, 0, 160, 167, 255, 231, 42, 42, 42, 180, 0, 166, 42, 180, 0, 160, 182, 0, 178, 181, 0, 172, 42]
abbrev dktX3_reads_5 : List UInt8 := dkwX3_reads_5 ++ dktX3_reads_6
def dkwX3_reads_4 : List UInt8 := [42, 42, 42, 180, 0, 160, 182, 0, 163, 182, 0, 175, 153, 0, 16, 42, 42, 180, 0, 160, 4, 96]
abbrev dktX3_reads_4 : List UInt8 := dkwX3_reads_4 ++ dktX3_reads_5
def dkwX3_reads_3 : List UInt8 := [177, 42, 42, 180, 0, 160, 4, 96, 181, 0, 160, 42, 27, 181, 0, 172, 42, 27, 182, 0, 175, 153, 0, 63]
abbrev dktX3_reads_3 : List UInt8 := dkwX3_reads_3 ++ dktX3_reads_4
def dkwX3_reads_2 : List UInt8 := [42, 4, 181, 0, 169, 42, 42, 180, 0, 160, 182, 0, 163, 60, 27, 2, 160, 0, 9, 42, 3, 181, 0, 169]
abbrev dktX3_reads_2 : List UInt8 := dkwX3_reads_2 ++ dktX3_reads_3
def dkwX3_reads_1 : List UInt8 := [160, 0, 16, 42, 42, 180, 0, 160, 4, 96, 181, 0, 160, 167, 255, 220, 42, 42, 180, 0, 160, 181, 0, 166]
abbrev dktX3_reads_1 : List UInt8 := dkwX3_reads_1 ++ dktX3_reads_2
def dkwX3_reads_0 : List UInt8 := [42, 42, 180, 0, 160, 182, 0, 163, 16, 32, 159, 0, 16, 42, 42, 180, 0, 160, 182, 0, 163, 16, 10]
abbrev dktX3_reads_0 : List UInt8 := dkwX3_reads_0 ++ dktX3_reads_1
theorem dksX3_reads_0 : cX3_reads.data.toList.drop 0 = dktX3_reads_0 := by decide +kernel
theorem dksX3_reads_1 : cX3_reads.data.toList.drop 23 = dktX3_reads_1 := dk_seg dksX3_reads_0 23 rfl rfl
theorem dksX3_reads_2 : cX3_reads.data.toList.drop 47 = dktX3_reads_2 := dk_seg dksX3_reads_1 24 rfl rfl
theorem dksX3_reads_3 : cX3_reads.data.toList.drop 71 = dktX3_reads_3 := dk_seg dksX3_reads_2 24 rfl rfl
theorem dksX3_reads_4 : cX3_reads.data.toList.drop 95 = dktX3_reads_4 := dk_seg dksX3_reads_3 24 rfl rfl
theorem dksX3_reads_5 : cX3_reads.data.toList.drop 117 = dktX3_reads_5 := dk_seg dksX3_reads_4 22 rfl rfl
theorem dksX3_reads_6 : cX3_reads.data.toList.drop 140 = dktX3_reads_6 := dk_seg dksX3_reads_5 23 rfl rfl
theorem dksX3_reads_7 : cX3_reads.data.toList.drop 164 = dktX3_reads_7 := dk_seg dksX3_reads_6 24 rfl rfl
theorem dksX3_reads_8 : cX3_reads.data.toList.drop 188 = dktX3_reads_8 := dk_seg dksX3_reads_7 24 rfl rfl
theorem dksX3_reads_9 : cX3_reads.data.toList.drop 212 = dktX3_reads_9 := dk_seg dksX3_reads_8 24 rfl rfl
theorem dksX3_reads_10 : cX3_reads.data.toList.drop 236 = dktX3_reads_10 := dk_seg dksX3_reads_9 24 rfl rfl
theorem dksX3_reads_11 : cX3_reads.data.toList.drop 260 = dktX3_reads_11 := dk_seg dksX3_reads_10 24 rfl rfl
theorem dX3_reads_0 : decode cX3_reads 0 = .ok (.aload_n 0, 1) := dk_42 (dk_at dksX3_reads_0 0 rfl rfl)
theorem dX3_reads_1 : decode cX3_reads 1 = .ok (.aload_n 0, 1) := dk_42 (dk_at dksX3_reads_0 1 rfl rfl)
theorem dX3_reads_2 : decode cX3_reads 2 = .ok (.getfield 160, 3) := dk_180 0 160 (dk_at dksX3_reads_0 2 rfl rfl)
theorem dX3_reads_5 : decode cX3_reads 5 = .ok (.invokevirtual 163, 3) := dk_182 0 163 (dk_at dksX3_reads_0 5 rfl rfl)
theorem dX3_reads_8 : decode cX3_reads 8 = .ok (.bipush 32, 2) := dk_16 32 (dk_at dksX3_reads_0 8 rfl rfl)
theorem dX3_reads_10 : decode cX3_reads 10 = .ok (.if_icmp .eq 16, 3) := dk_159 0 16 (dk_at dksX3_reads_0 10 rfl rfl)
theorem dX3_reads_13 : decode cX3_reads 13 = .ok (.aload_n 0, 1) := dk_42 (dk_at dksX3_reads_0 13 rfl rfl)
theorem dX3_reads_14 : decode cX3_reads 14 = .ok (.aload_n 0, 1) := dk_42 (dk_at dksX3_reads_0 14 rfl rfl)
theorem dX3_reads_15 : decode cX3_reads 15 = .ok (.getfield 160, 3) := dk_180 0 160 (dk_at dksX3_reads_0 15 rfl rfl)
theorem dX3_reads_18 : decode cX3_reads 18 = .ok (.invokevirtual 163, 3) := dk_182 0 163 (dk_at dksX3_reads_0 18 rfl rfl)
theorem dX3_reads_21 : decode cX3_reads 21 = .ok (.bipush 10, 2) := dk_16 10 (dk_at dksX3_reads_0 21 rfl rfl)
theorem dX3_reads_23 : decode cX3_reads 23 = .ok (.if_icmp .ne 16, 3) := dk_160 0 16 (dk_at dksX3_reads_1 0 rfl rfl)
theorem dX3_reads_26 : decode cX3_reads 26 = .ok (.aload_n 0, 1) := dk_42 (dk_at dksX3_reads_1 3 rfl rfl)
theorem dX3_reads_27 : decode cX3_reads 27 = .ok (.aload_n 0, 1) := dk_42 (dk_at dksX3_reads_1 4 rfl rfl)
theorem dX3_reads_28 : decode cX3_reads 28 = .ok (.getfield 160, 3) := dk_180 0 160 (dk_at dksX3_reads_1 5 rfl rfl)
theorem dX3_reads_31 : decode cX3_reads 31 = .ok (.iconst 1, 1) := dk_4 (dk_at dksX3_reads_1 8 rfl rfl)
theorem dX3_reads_32 : decode cX3_reads 32 = .ok (.iadd, 1) := dk_96 (dk_at dksX3_reads_1 9 rfl rfl)
theorem dX3_reads_33 : decode cX3_reads 33 = .ok (.putfield 160, 3) := dk_181 0 160 (dk_at dksX3_reads_1 10 rfl rfl)
theorem dX3_reads_36 : decode cX3_reads 36 = .ok (.goto (-36), 3) := dk_167 255 220 (dk_at dksX3_reads_1 13 rfl rfl)
theorem dX3_reads_39 : decode cX3_reads 39 = .ok (.aload_n 0, 1) := dk_42 (dk_at dksX3_reads_1 16 rfl rfl)
theorem dX3_reads_40 : decode cX3_reads 40 = .ok (.aload_n 0, 1) := dk_42 (dk_at dksX3_reads_1 17 rfl rfl)
theorem dX3_reads_41 : decode cX3_reads 41 = .ok (.getfield 160, 3) := dk_180 0 160 (dk_at dksX3_reads_1 18 rfl rfl)
theorem dX3_reads_44 : decode cX3_reads 44 = .ok (.putfield 166, 3) := dk_181 0 166 (dk_at dksX3_reads_1 21 rfl rfl)
theorem dX3_reads_47 : decode cX3_reads 47 = .ok (.aload_n 0, 1) := dk_42 (dk_at dksX3_reads_2 0 rfl rfl)
theorem dX3_reads_48 : decode cX3_reads 48 = .ok (.iconst 1, 1) := dk_4 (dk_at dksX3_reads_2 1 rfl rfl)
theorem dX3_reads_49 : decode cX3_reads 49 = .ok (.putfield 169, 3) := dk_181 0 169 (dk_at dksX3_reads_2 2 rfl rfl)
theorem dX3_reads_52 : decode cX3_reads 52 = .ok (.aload_n 0, 1) := dk_42 (dk_at dksX3_reads_2 5 rfl rfl)
theorem dX3_reads_53 : decode cX3_reads 53 = .ok (.aload_n 0, 1) := dk_42 (dk_at dksX3_reads_2 6 rfl rfl)
theorem dX3_reads_54 : decode cX3_reads 54 = .ok (.getfield 160, 3) := dk_180 0 160 (dk_at dksX3_reads_2 7 rfl rfl)
theorem dX3_reads_57 : decode cX3_reads 57 = .ok (.invokevirtual 163, 3) := dk_182 0 163 (dk_at dksX3_reads_2 10 rfl rfl)
theorem dX3_reads_60 : decode cX3_reads 60 = .ok (.istore_n 1, 1) := dk_60 (dk_at dksX3_reads_2 13 rfl rfl)
theorem dX3_reads_61 : decode cX3_reads 61 = .ok (.iload_n 1, 1) := dk_27 (dk_at dksX3_reads_2 14 rfl rfl)
theorem dX3_reads_62 : decode cX3_reads 62 = .ok (.iconst (-1), 1) := dk_2 (dk_at dksX3_reads_2 15 rfl rfl)
theorem dX3_reads_63 : decode cX3_reads 63 = .ok (.if_icmp .ne 9, 3) := dk_160 0 9 (dk_at dksX3_reads_2 16 rfl rfl)
theorem dX3_reads_66 : decode cX3_reads 66 = .ok (.aload_n 0, 1) := dk_42 (dk_at dksX3_reads_2 19 rfl rfl)
theorem dX3_reads_67 : decode cX3_reads 67 = .ok (.iconst 0, 1) := dk_3 (dk_at dksX3_reads_2 20 rfl rfl)
theorem dX3_reads_68 : decode cX3_reads 68 = .ok (.putfield 169, 3) := dk_181 0 169 (dk_at dksX3_reads_2 21 rfl rfl)
theorem dX3_reads_71 : decode cX3_reads 71 = .ok (.return_, 1) := dk_177 (dk_at dksX3_reads_3 0 rfl rfl)
theorem dX3_reads_72 : decode cX3_reads 72 = .ok (.aload_n 0, 1) := dk_42 (dk_at dksX3_reads_3 1 rfl rfl)
theorem dX3_reads_73 : decode cX3_reads 73 = .ok (.aload_n 0, 1) := dk_42 (dk_at dksX3_reads_3 2 rfl rfl)
theorem dX3_reads_74 : decode cX3_reads 74 = .ok (.getfield 160, 3) := dk_180 0 160 (dk_at dksX3_reads_3 3 rfl rfl)
theorem dX3_reads_77 : decode cX3_reads 77 = .ok (.iconst 1, 1) := dk_4 (dk_at dksX3_reads_3 6 rfl rfl)
theorem dX3_reads_78 : decode cX3_reads 78 = .ok (.iadd, 1) := dk_96 (dk_at dksX3_reads_3 7 rfl rfl)
theorem dX3_reads_79 : decode cX3_reads 79 = .ok (.putfield 160, 3) := dk_181 0 160 (dk_at dksX3_reads_3 8 rfl rfl)
theorem dX3_reads_82 : decode cX3_reads 82 = .ok (.aload_n 0, 1) := dk_42 (dk_at dksX3_reads_3 11 rfl rfl)
theorem dX3_reads_83 : decode cX3_reads 83 = .ok (.iload_n 1, 1) := dk_27 (dk_at dksX3_reads_3 12 rfl rfl)
theorem dX3_reads_84 : decode cX3_reads 84 = .ok (.putfield 172, 3) := dk_181 0 172 (dk_at dksX3_reads_3 13 rfl rfl)
theorem dX3_reads_87 : decode cX3_reads 87 = .ok (.aload_n 0, 1) := dk_42 (dk_at dksX3_reads_3 16 rfl rfl)
theorem dX3_reads_88 : decode cX3_reads 88 = .ok (.iload_n 1, 1) := dk_27 (dk_at dksX3_reads_3 17 rfl rfl)
theorem dX3_reads_89 : decode cX3_reads 89 = .ok (.invokevirtual 175, 3) := dk_182 0 175 (dk_at dksX3_reads_3 18 rfl rfl)
theorem dX3_reads_92 : decode cX3_reads 92 = .ok (.ifCond .eq 63, 3) := dk_153 0 63 (dk_at dksX3_reads_3 21 rfl rfl)
theorem dX3_reads_95 : decode cX3_reads 95 = .ok (.aload_n 0, 1) := dk_42 (dk_at dksX3_reads_4 0 rfl rfl)
theorem dX3_reads_96 : decode cX3_reads 96 = .ok (.aload_n 0, 1) := dk_42 (dk_at dksX3_reads_4 1 rfl rfl)
theorem dX3_reads_97 : decode cX3_reads 97 = .ok (.aload_n 0, 1) := dk_42 (dk_at dksX3_reads_4 2 rfl rfl)
theorem dX3_reads_98 : decode cX3_reads 98 = .ok (.getfield 160, 3) := dk_180 0 160 (dk_at dksX3_reads_4 3 rfl rfl)
theorem dX3_reads_101 : decode cX3_reads 101 = .ok (.invokevirtual 163, 3) := dk_182 0 163 (dk_at dksX3_reads_4 6 rfl rfl)
theorem dX3_reads_104 : decode cX3_reads 104 = .ok (.invokevirtual 175, 3) := dk_182 0 175 (dk_at dksX3_reads_4 9 rfl rfl)
theorem dX3_reads_107 : decode cX3_reads 107 = .ok (.ifCond .eq 16, 3) := dk_153 0 16 (dk_at dksX3_reads_4 12 rfl rfl)
theorem dX3_reads_110 : decode cX3_reads 110 = .ok (.aload_n 0, 1) := dk_42 (dk_at dksX3_reads_4 15 rfl rfl)
theorem dX3_reads_111 : decode cX3_reads 111 = .ok (.aload_n 0, 1) := dk_42 (dk_at dksX3_reads_4 16 rfl rfl)
theorem dX3_reads_112 : decode cX3_reads 112 = .ok (.getfield 160, 3) := dk_180 0 160 (dk_at dksX3_reads_4 17 rfl rfl)
theorem dX3_reads_115 : decode cX3_reads 115 = .ok (.iconst 1, 1) := dk_4 (dk_at dksX3_reads_4 20 rfl rfl)
theorem dX3_reads_116 : decode cX3_reads 116 = .ok (.iadd, 1) := dk_96 (dk_at dksX3_reads_4 21 rfl rfl)
theorem dX3_reads_117 : decode cX3_reads 117 = .ok (.putfield 160, 3) := dk_181 0 160 (dk_at dksX3_reads_5 0 rfl rfl)
theorem dX3_reads_120 : decode cX3_reads 120 = .ok (.goto (-25), 3) := dk_167 255 231 (dk_at dksX3_reads_5 3 rfl rfl)
theorem dX3_reads_123 : decode cX3_reads 123 = .ok (.aload_n 0, 1) := dk_42 (dk_at dksX3_reads_5 6 rfl rfl)
theorem dX3_reads_124 : decode cX3_reads 124 = .ok (.aload_n 0, 1) := dk_42 (dk_at dksX3_reads_5 7 rfl rfl)
theorem dX3_reads_125 : decode cX3_reads 125 = .ok (.aload_n 0, 1) := dk_42 (dk_at dksX3_reads_5 8 rfl rfl)
theorem dX3_reads_126 : decode cX3_reads 126 = .ok (.getfield 166, 3) := dk_180 0 166 (dk_at dksX3_reads_5 9 rfl rfl)
theorem dX3_reads_129 : decode cX3_reads 129 = .ok (.aload_n 0, 1) := dk_42 (dk_at dksX3_reads_5 12 rfl rfl)
theorem dX3_reads_130 : decode cX3_reads 130 = .ok (.getfield 160, 3) := dk_180 0 160 (dk_at dksX3_reads_5 13 rfl rfl)
theorem dX3_reads_133 : decode cX3_reads 133 = .ok (.invokevirtual 178, 3) := dk_182 0 178 (dk_at dksX3_reads_5 16 rfl rfl)
theorem dX3_reads_136 : decode cX3_reads 136 = .ok (.putfield 172, 3) := dk_181 0 172 (dk_at dksX3_reads_5 19 rfl rfl)
theorem dX3_reads_139 : decode cX3_reads 139 = .ok (.aload_n 0, 1) := dk_42 (dk_at dksX3_reads_5 22 rfl rfl)
theorem dX3_reads_140 : decode cX3_reads 140 = .ok (.getfield 172, 3) := dk_180 0 172 (dk_at dksX3_reads_6 0 rfl rfl)
theorem dX3_reads_143 : decode cX3_reads 143 = .ok (.iconst (-1), 1) := dk_2 (dk_at dksX3_reads_6 3 rfl rfl)
theorem dX3_reads_144 : decode cX3_reads 144 = .ok (.if_icmp .eq 129, 3) := dk_159 0 129 (dk_at dksX3_reads_6 4 rfl rfl)
theorem dX3_reads_147 : decode cX3_reads 147 = .ok (.aload_n 0, 1) := dk_42 (dk_at dksX3_reads_6 7 rfl rfl)
theorem dX3_reads_148 : decode cX3_reads 148 = .ok (.iconst 2, 1) := dk_5 (dk_at dksX3_reads_6 8 rfl rfl)
theorem dX3_reads_149 : decode cX3_reads 149 = .ok (.putfield 169, 3) := dk_181 0 169 (dk_at dksX3_reads_6 9 rfl rfl)
theorem dX3_reads_152 : decode cX3_reads 152 = .ok (.goto 121, 3) := dk_167 0 121 (dk_at dksX3_reads_6 12 rfl rfl)
theorem dX3_reads_155 : decode cX3_reads 155 = .ok (.aload_n 0, 1) := dk_42 (dk_at dksX3_reads_6 15 rfl rfl)
theorem dX3_reads_156 : decode cX3_reads 156 = .ok (.iload_n 1, 1) := dk_27 (dk_at dksX3_reads_6 16 rfl rfl)
theorem dX3_reads_157 : decode cX3_reads 157 = .ok (.invokevirtual 182, 3) := dk_182 0 182 (dk_at dksX3_reads_6 17 rfl rfl)
theorem dX3_reads_160 : decode cX3_reads 160 = .ok (.ifCond .eq 100, 3) := dk_153 0 100 (dk_at dksX3_reads_6 20 rfl rfl)
theorem dX3_reads_163 : decode cX3_reads 163 = .ok (.aload_n 0, 1) := dk_42 (dk_at dksX3_reads_6 23 rfl rfl)
theorem dX3_reads_164 : decode cX3_reads 164 = .ok (.iload_n 1, 1) := dk_27 (dk_at dksX3_reads_7 0 rfl rfl)
theorem dX3_reads_165 : decode cX3_reads 165 = .ok (.bipush 48, 2) := dk_16 48 (dk_at dksX3_reads_7 1 rfl rfl)
theorem dX3_reads_167 : decode cX3_reads 167 = .ok (.isub, 1) := dk_100 (dk_at dksX3_reads_7 3 rfl rfl)
theorem dX3_reads_168 : decode cX3_reads 168 = .ok (.putfield 172, 3) := dk_181 0 172 (dk_at dksX3_reads_7 4 rfl rfl)
theorem dX3_reads_171 : decode cX3_reads 171 = .ok (.aload_n 0, 1) := dk_42 (dk_at dksX3_reads_7 7 rfl rfl)
theorem dX3_reads_172 : decode cX3_reads 172 = .ok (.aload_n 0, 1) := dk_42 (dk_at dksX3_reads_7 8 rfl rfl)
theorem dX3_reads_173 : decode cX3_reads 173 = .ok (.aload_n 0, 1) := dk_42 (dk_at dksX3_reads_7 9 rfl rfl)
theorem dX3_reads_174 : decode cX3_reads 174 = .ok (.getfield 160, 3) := dk_180 0 160 (dk_at dksX3_reads_7 10 rfl rfl)
theorem dX3_reads_177 : decode cX3_reads 177 = .ok (.invokevirtual 163, 3) := dk_182 0 163 (dk_at dksX3_reads_7 13 rfl rfl)
theorem dX3_reads_180 : decode cX3_reads 180 = .ok (.invokevirtual 182, 3) := dk_182 0 182 (dk_at dksX3_reads_7 16 rfl rfl)
theorem dX3_reads_183 : decode cX3_reads 183 = .ok (.ifCond .eq 56, 3) := dk_153 0 56 (dk_at dksX3_reads_7 19 rfl rfl)
theorem dX3_reads_186 : decode cX3_reads 186 = .ok (.aload_n 0, 1) := dk_42 (dk_at dksX3_reads_7 22 rfl rfl)
theorem dX3_reads_187 : decode cX3_reads 187 = .ok (.aload_n 0, 1) := dk_42 (dk_at dksX3_reads_7 23 rfl rfl)
theorem dX3_reads_188 : decode cX3_reads 188 = .ok (.getfield 172, 3) := dk_180 0 172 (dk_at dksX3_reads_8 0 rfl rfl)
theorem dX3_reads_191 : decode cX3_reads 191 = .ok (.sipush 10000, 3) := dk_17 39 16 (dk_at dksX3_reads_8 3 rfl rfl)
theorem dX3_reads_194 : decode cX3_reads 194 = .ok (.if_icmp .ge 25, 3) := dk_162 0 25 (dk_at dksX3_reads_8 6 rfl rfl)
theorem dX3_reads_197 : decode cX3_reads 197 = .ok (.bipush 10, 2) := dk_16 10 (dk_at dksX3_reads_8 9 rfl rfl)
theorem dX3_reads_199 : decode cX3_reads 199 = .ok (.aload_n 0, 1) := dk_42 (dk_at dksX3_reads_8 11 rfl rfl)
theorem dX3_reads_200 : decode cX3_reads 200 = .ok (.getfield 172, 3) := dk_180 0 172 (dk_at dksX3_reads_8 12 rfl rfl)
theorem dX3_reads_203 : decode cX3_reads 203 = .ok (.imul, 1) := dk_104 (dk_at dksX3_reads_8 15 rfl rfl)
theorem dX3_reads_204 : decode cX3_reads 204 = .ok (.aload_n 0, 1) := dk_42 (dk_at dksX3_reads_8 16 rfl rfl)
theorem dX3_reads_205 : decode cX3_reads 205 = .ok (.aload_n 0, 1) := dk_42 (dk_at dksX3_reads_8 17 rfl rfl)
theorem dX3_reads_206 : decode cX3_reads 206 = .ok (.getfield 160, 3) := dk_180 0 160 (dk_at dksX3_reads_8 18 rfl rfl)
theorem dX3_reads_209 : decode cX3_reads 209 = .ok (.invokevirtual 163, 3) := dk_182 0 163 (dk_at dksX3_reads_8 21 rfl rfl)
theorem dX3_reads_212 : decode cX3_reads 212 = .ok (.iadd, 1) := dk_96 (dk_at dksX3_reads_9 0 rfl rfl)
theorem dX3_reads_213 : decode cX3_reads 213 = .ok (.bipush 48, 2) := dk_16 48 (dk_at dksX3_reads_9 1 rfl rfl)
theorem dX3_reads_215 : decode cX3_reads 215 = .ok (.isub, 1) := dk_100 (dk_at dksX3_reads_9 3 rfl rfl)
theorem dX3_reads_216 : decode cX3_reads 216 = .ok (.goto 7, 3) := dk_167 0 7 (dk_at dksX3_reads_9 4 rfl rfl)
theorem dX3_reads_219 : decode cX3_reads 219 = .ok (.aload_n 0, 1) := dk_42 (dk_at dksX3_reads_9 7 rfl rfl)
theorem dX3_reads_220 : decode cX3_reads 220 = .ok (.getfield 172, 3) := dk_180 0 172 (dk_at dksX3_reads_9 8 rfl rfl)
theorem dX3_reads_223 : decode cX3_reads 223 = .ok (.putfield 172, 3) := dk_181 0 172 (dk_at dksX3_reads_9 11 rfl rfl)
theorem dX3_reads_226 : decode cX3_reads 226 = .ok (.aload_n 0, 1) := dk_42 (dk_at dksX3_reads_9 14 rfl rfl)
theorem dX3_reads_227 : decode cX3_reads 227 = .ok (.aload_n 0, 1) := dk_42 (dk_at dksX3_reads_9 15 rfl rfl)
theorem dX3_reads_228 : decode cX3_reads 228 = .ok (.getfield 160, 3) := dk_180 0 160 (dk_at dksX3_reads_9 16 rfl rfl)
theorem dX3_reads_231 : decode cX3_reads 231 = .ok (.iconst 1, 1) := dk_4 (dk_at dksX3_reads_9 19 rfl rfl)
theorem dX3_reads_232 : decode cX3_reads 232 = .ok (.iadd, 1) := dk_96 (dk_at dksX3_reads_9 20 rfl rfl)
theorem dX3_reads_233 : decode cX3_reads 233 = .ok (.putfield 160, 3) := dk_181 0 160 (dk_at dksX3_reads_9 21 rfl rfl)
theorem dX3_reads_236 : decode cX3_reads 236 = .ok (.goto (-65), 3) := dk_167 255 191 (dk_at dksX3_reads_10 0 rfl rfl)
theorem dX3_reads_239 : decode cX3_reads 239 = .ok (.aload_n 0, 1) := dk_42 (dk_at dksX3_reads_10 3 rfl rfl)
theorem dX3_reads_240 : decode cX3_reads 240 = .ok (.getfield 160, 3) := dk_180 0 160 (dk_at dksX3_reads_10 4 rfl rfl)
theorem dX3_reads_243 : decode cX3_reads 243 = .ok (.aload_n 0, 1) := dk_42 (dk_at dksX3_reads_10 7 rfl rfl)
theorem dX3_reads_244 : decode cX3_reads 244 = .ok (.getfield 166, 3) := dk_180 0 166 (dk_at dksX3_reads_10 8 rfl rfl)
theorem dX3_reads_247 : decode cX3_reads 247 = .ok (.isub, 1) := dk_100 (dk_at dksX3_reads_10 11 rfl rfl)
theorem dX3_reads_248 : decode cX3_reads 248 = .ok (.iconst 5, 1) := dk_8 (dk_at dksX3_reads_10 12 rfl rfl)
theorem dX3_reads_249 : decode cX3_reads 249 = .ok (.if_icmp .ge 24, 3) := dk_162 0 24 (dk_at dksX3_reads_10 13 rfl rfl)
theorem dX3_reads_252 : decode cX3_reads 252 = .ok (.aload_n 0, 1) := dk_42 (dk_at dksX3_reads_10 16 rfl rfl)
theorem dX3_reads_253 : decode cX3_reads 253 = .ok (.iconst 3, 1) := dk_6 (dk_at dksX3_reads_10 17 rfl rfl)
theorem dX3_reads_254 : decode cX3_reads 254 = .ok (.putfield 169, 3) := dk_181 0 169 (dk_at dksX3_reads_10 18 rfl rfl)
theorem dX3_reads_257 : decode cX3_reads 257 = .ok (.goto 16, 3) := dk_167 0 16 (dk_at dksX3_reads_10 21 rfl rfl)
theorem dX3_reads_260 : decode cX3_reads 260 = .ok (.aload_n 0, 1) := dk_42 (dk_at dksX3_reads_11 0 rfl rfl)
theorem dX3_reads_261 : decode cX3_reads 261 = .ok (.iload_n 1, 1) := dk_27 (dk_at dksX3_reads_11 1 rfl rfl)
theorem dX3_reads_262 : decode cX3_reads 262 = .ok (.invokevirtual 185, 3) := dk_182 0 185 (dk_at dksX3_reads_11 2 rfl rfl)
theorem dX3_reads_265 : decode cX3_reads 265 = .ok (.ifCond .eq 8, 3) := dk_153 0 8 (dk_at dksX3_reads_11 5 rfl rfl)
theorem dX3_reads_268 : decode cX3_reads 268 = .ok (.aload_n 0, 1) := dk_42 (dk_at dksX3_reads_11 8 rfl rfl)
theorem dX3_reads_269 : decode cX3_reads 269 = .ok (.iconst 4, 1) := dk_7 (dk_at dksX3_reads_11 9 rfl rfl)
theorem dX3_reads_270 : decode cX3_reads 270 = .ok (.putfield 169, 3) := dk_181 0 169 (dk_at dksX3_reads_11 10 rfl rfl)
theorem dX3_reads_273 : decode cX3_reads 273 = .ok (.return_, 1) := dk_177 (dk_at dksX3_reads_11 13 rfl rfl)
abbrev cX3_raw : ByteArray := prog_14_method_28_code
def yX3_raw : MethodName := ⟨RX3, "raw", "(I)I"⟩
def dkwX3_raw_0 : List UInt8 := [27, 42, 180, 0, 153, 162, 0, 12, 42, 180, 0, 38, 27, 46, 167, 0, 4, 2, 172]
abbrev dktX3_raw_0 : List UInt8 := dkwX3_raw_0 ++ []
theorem dksX3_raw_0 : cX3_raw.data.toList.drop 0 = dktX3_raw_0 := by decide +kernel
theorem dX3_raw_0 : decode cX3_raw 0 = .ok (.iload_n 1, 1) := dk_27 (dk_at dksX3_raw_0 0 rfl rfl)
theorem dX3_raw_1 : decode cX3_raw 1 = .ok (.aload_n 0, 1) := dk_42 (dk_at dksX3_raw_0 1 rfl rfl)
theorem dX3_raw_2 : decode cX3_raw 2 = .ok (.getfield 153, 3) := dk_180 0 153 (dk_at dksX3_raw_0 2 rfl rfl)
theorem dX3_raw_5 : decode cX3_raw 5 = .ok (.if_icmp .ge 12, 3) := dk_162 0 12 (dk_at dksX3_raw_0 5 rfl rfl)
theorem dX3_raw_8 : decode cX3_raw 8 = .ok (.aload_n 0, 1) := dk_42 (dk_at dksX3_raw_0 8 rfl rfl)
theorem dX3_raw_9 : decode cX3_raw 9 = .ok (.getfield 38, 3) := dk_180 0 38 (dk_at dksX3_raw_0 9 rfl rfl)
theorem dX3_raw_12 : decode cX3_raw 12 = .ok (.iload_n 1, 1) := dk_27 (dk_at dksX3_raw_0 12 rfl rfl)
theorem dX3_raw_13 : decode cX3_raw 13 = .ok (.iaload, 1) := dk_46 (dk_at dksX3_raw_0 13 rfl rfl)
theorem dX3_raw_14 : decode cX3_raw 14 = .ok (.goto 4, 3) := dk_167 0 4 (dk_at dksX3_raw_0 14 rfl rfl)
theorem dX3_raw_17 : decode cX3_raw 17 = .ok (.iconst (-1), 1) := dk_2 (dk_at dksX3_raw_0 17 rfl rfl)
theorem dX3_raw_18 : decode cX3_raw 18 = .ok (.ireturn, 1) := dk_172 (dk_at dksX3_raw_0 18 rfl rfl)
abbrev cX3_isLetter : ByteArray := prog_14_method_29_code
def yX3_isLetter : MethodName := ⟨RX3, "isLetter", "(I)Z"⟩
def dkwX3_isLetter_1 : List UInt8 := [4, 167, 0, 4, 3, 172]
abbrev dktX3_isLetter_1 : List UInt8 := dkwX3_isLetter_1 ++ []
def dkwX3_isLetter_0 : List UInt8 := [42, 27, 16, 97, 16, 122, 182, 0, 107, 154, 0, 15, 42, 27, 16, 65, 16, 90, 182, 0, 107, 153, 0, 7]
abbrev dktX3_isLetter_0 : List UInt8 := dkwX3_isLetter_0 ++ dktX3_isLetter_1
theorem dksX3_isLetter_0 : cX3_isLetter.data.toList.drop 0 = dktX3_isLetter_0 := by decide +kernel
theorem dksX3_isLetter_1 : cX3_isLetter.data.toList.drop 24 = dktX3_isLetter_1 := dk_seg dksX3_isLetter_0 24 rfl rfl
theorem dX3_isLetter_0 : decode cX3_isLetter 0 = .ok (.aload_n 0, 1) := dk_42 (dk_at dksX3_isLetter_0 0 rfl rfl)
theorem dX3_isLetter_1 : decode cX3_isLetter 1 = .ok (.iload_n 1, 1) := dk_27 (dk_at dksX3_isLetter_0 1 rfl rfl)
theorem dX3_isLetter_2 : decode cX3_isLetter 2 = .ok (.bipush 97, 2) := dk_16 97 (dk_at dksX3_isLetter_0 2 rfl rfl)
theorem dX3_isLetter_4 : decode cX3_isLetter 4 = .ok (.bipush 122, 2) := dk_16 122 (dk_at dksX3_isLetter_0 4 rfl rfl)
theorem dX3_isLetter_6 : decode cX3_isLetter 6 = .ok (.invokevirtual 107, 3) := dk_182 0 107 (dk_at dksX3_isLetter_0 6 rfl rfl)
theorem dX3_isLetter_9 : decode cX3_isLetter 9 = .ok (.ifCond .ne 15, 3) := dk_154 0 15 (dk_at dksX3_isLetter_0 9 rfl rfl)
theorem dX3_isLetter_12 : decode cX3_isLetter 12 = .ok (.aload_n 0, 1) := dk_42 (dk_at dksX3_isLetter_0 12 rfl rfl)
theorem dX3_isLetter_13 : decode cX3_isLetter 13 = .ok (.iload_n 1, 1) := dk_27 (dk_at dksX3_isLetter_0 13 rfl rfl)
theorem dX3_isLetter_14 : decode cX3_isLetter 14 = .ok (.bipush 65, 2) := dk_16 65 (dk_at dksX3_isLetter_0 14 rfl rfl)
theorem dX3_isLetter_16 : decode cX3_isLetter 16 = .ok (.bipush 90, 2) := dk_16 90 (dk_at dksX3_isLetter_0 16 rfl rfl)
theorem dX3_isLetter_18 : decode cX3_isLetter 18 = .ok (.invokevirtual 107, 3) := dk_182 0 107 (dk_at dksX3_isLetter_0 18 rfl rfl)
theorem dX3_isLetter_21 : decode cX3_isLetter 21 = .ok (.ifCond .eq 7, 3) := dk_153 0 7 (dk_at dksX3_isLetter_0 21 rfl rfl)
theorem dX3_isLetter_24 : decode cX3_isLetter 24 = .ok (.iconst 1, 1) := dk_4 (dk_at dksX3_isLetter_1 0 rfl rfl)
theorem dX3_isLetter_25 : decode cX3_isLetter 25 = .ok (.goto 4, 3) := dk_167 0 4 (dk_at dksX3_isLetter_1 1 rfl rfl)
theorem dX3_isLetter_28 : decode cX3_isLetter 28 = .ok (.iconst 0, 1) := dk_3 (dk_at dksX3_isLetter_1 4 rfl rfl)
theorem dX3_isLetter_29 : decode cX3_isLetter 29 = .ok (.ireturn, 1) := dk_172 (dk_at dksX3_isLetter_1 5 rfl rfl)
abbrev cX3_wordAt : ByteArray := prog_14_method_32_code
def yX3_wordAt : MethodName := ⟨RX3, "wordAt", "(II)I"⟩
def dkwX3_wordAt_5 : List UInt8 := [172]
abbrev dktX3_wordAt_5 : List UInt8 := dkwX3_wordAt_5 ++ []
def dkwX3_wordAt_4 : List UInt8 := [180, 0, 41, 21, 4, 46, 16, 32, 159, 0, 12, 21, 4, 4, 96, 54, 4, 167, 255, 238, 167, 255, 147, 2]
abbrev dktX3_wordAt_4 : List UInt8 := dkwX3_wordAt_4 ++ dktX3_wordAt_5
def dkwX3_wordAt_3 : List UInt8 := [21, 4, 4, 96, 21, 5, 96, 46, 16, 32, 160, 0, 5, 29, 172, 21, 4, 4, 96, 54, 4, 42]
abbrev dktX3_wordAt_3 : List UInt8 := dkwX3_wordAt_3 ++ dktX3_wordAt_4
def dkwX3_wordAt_2 : List UInt8 := [160, 0, 12, 21, 5, 4, 96, 54, 5, 167, 255, 218, 27, 21, 5, 96, 28, 160, 0, 22, 42, 180, 0, 41]
abbrev dktX3_wordAt_2 : List UInt8 := dkwX3_wordAt_2 ++ dktX3_wordAt_3
def dkwX3_wordAt_1 : List UInt8 := [162, 0, 36, 42, 180, 0, 41, 21, 4, 4, 96, 21, 5, 96, 46, 42, 180, 0, 38, 27, 21, 5, 96, 46]
abbrev dktX3_wordAt_1 : List UInt8 := dkwX3_wordAt_1 ++ dktX3_wordAt_2
def dkwX3_wordAt_0 : List UInt8 := [2, 62, 3, 54, 4, 21, 4, 16, 61, 162, 0, 108, 3, 54, 5, 29, 4, 96, 62, 27, 21, 5, 96, 28]
abbrev dktX3_wordAt_0 : List UInt8 := dkwX3_wordAt_0 ++ dktX3_wordAt_1
theorem dksX3_wordAt_0 : cX3_wordAt.data.toList.drop 0 = dktX3_wordAt_0 := by decide +kernel
theorem dksX3_wordAt_1 : cX3_wordAt.data.toList.drop 24 = dktX3_wordAt_1 := dk_seg dksX3_wordAt_0 24 rfl rfl
theorem dksX3_wordAt_2 : cX3_wordAt.data.toList.drop 48 = dktX3_wordAt_2 := dk_seg dksX3_wordAt_1 24 rfl rfl
theorem dksX3_wordAt_3 : cX3_wordAt.data.toList.drop 72 = dktX3_wordAt_3 := dk_seg dksX3_wordAt_2 24 rfl rfl
theorem dksX3_wordAt_4 : cX3_wordAt.data.toList.drop 94 = dktX3_wordAt_4 := dk_seg dksX3_wordAt_3 22 rfl rfl
theorem dksX3_wordAt_5 : cX3_wordAt.data.toList.drop 118 = dktX3_wordAt_5 := dk_seg dksX3_wordAt_4 24 rfl rfl
theorem dX3_wordAt_0 : decode cX3_wordAt 0 = .ok (.iconst (-1), 1) := dk_2 (dk_at dksX3_wordAt_0 0 rfl rfl)
theorem dX3_wordAt_1 : decode cX3_wordAt 1 = .ok (.istore_n 3, 1) := dk_62 (dk_at dksX3_wordAt_0 1 rfl rfl)
theorem dX3_wordAt_2 : decode cX3_wordAt 2 = .ok (.iconst 0, 1) := dk_3 (dk_at dksX3_wordAt_0 2 rfl rfl)
theorem dX3_wordAt_3 : decode cX3_wordAt 3 = .ok (.istore 4, 2) := dk_54 4 (dk_at dksX3_wordAt_0 3 rfl rfl)
theorem dX3_wordAt_5 : decode cX3_wordAt 5 = .ok (.iload 4, 2) := dk_21 4 (dk_at dksX3_wordAt_0 5 rfl rfl)
theorem dX3_wordAt_7 : decode cX3_wordAt 7 = .ok (.bipush 61, 2) := dk_16 61 (dk_at dksX3_wordAt_0 7 rfl rfl)
theorem dX3_wordAt_9 : decode cX3_wordAt 9 = .ok (.if_icmp .ge 108, 3) := dk_162 0 108 (dk_at dksX3_wordAt_0 9 rfl rfl)
theorem dX3_wordAt_12 : decode cX3_wordAt 12 = .ok (.iconst 0, 1) := dk_3 (dk_at dksX3_wordAt_0 12 rfl rfl)
theorem dX3_wordAt_13 : decode cX3_wordAt 13 = .ok (.istore 5, 2) := dk_54 5 (dk_at dksX3_wordAt_0 13 rfl rfl)
theorem dX3_wordAt_15 : decode cX3_wordAt 15 = .ok (.iload_n 3, 1) := dk_29 (dk_at dksX3_wordAt_0 15 rfl rfl)
theorem dX3_wordAt_16 : decode cX3_wordAt 16 = .ok (.iconst 1, 1) := dk_4 (dk_at dksX3_wordAt_0 16 rfl rfl)
theorem dX3_wordAt_17 : decode cX3_wordAt 17 = .ok (.iadd, 1) := dk_96 (dk_at dksX3_wordAt_0 17 rfl rfl)
theorem dX3_wordAt_18 : decode cX3_wordAt 18 = .ok (.istore_n 3, 1) := dk_62 (dk_at dksX3_wordAt_0 18 rfl rfl)
theorem dX3_wordAt_19 : decode cX3_wordAt 19 = .ok (.iload_n 1, 1) := dk_27 (dk_at dksX3_wordAt_0 19 rfl rfl)
theorem dX3_wordAt_20 : decode cX3_wordAt 20 = .ok (.iload 5, 2) := dk_21 5 (dk_at dksX3_wordAt_0 20 rfl rfl)
theorem dX3_wordAt_22 : decode cX3_wordAt 22 = .ok (.iadd, 1) := dk_96 (dk_at dksX3_wordAt_0 22 rfl rfl)
theorem dX3_wordAt_23 : decode cX3_wordAt 23 = .ok (.iload_n 2, 1) := dk_28 (dk_at dksX3_wordAt_0 23 rfl rfl)
theorem dX3_wordAt_24 : decode cX3_wordAt 24 = .ok (.if_icmp .ge 36, 3) := dk_162 0 36 (dk_at dksX3_wordAt_1 0 rfl rfl)
theorem dX3_wordAt_27 : decode cX3_wordAt 27 = .ok (.aload_n 0, 1) := dk_42 (dk_at dksX3_wordAt_1 3 rfl rfl)
theorem dX3_wordAt_28 : decode cX3_wordAt 28 = .ok (.getfield 41, 3) := dk_180 0 41 (dk_at dksX3_wordAt_1 4 rfl rfl)
theorem dX3_wordAt_31 : decode cX3_wordAt 31 = .ok (.iload 4, 2) := dk_21 4 (dk_at dksX3_wordAt_1 7 rfl rfl)
theorem dX3_wordAt_33 : decode cX3_wordAt 33 = .ok (.iconst 1, 1) := dk_4 (dk_at dksX3_wordAt_1 9 rfl rfl)
theorem dX3_wordAt_34 : decode cX3_wordAt 34 = .ok (.iadd, 1) := dk_96 (dk_at dksX3_wordAt_1 10 rfl rfl)
theorem dX3_wordAt_35 : decode cX3_wordAt 35 = .ok (.iload 5, 2) := dk_21 5 (dk_at dksX3_wordAt_1 11 rfl rfl)
theorem dX3_wordAt_37 : decode cX3_wordAt 37 = .ok (.iadd, 1) := dk_96 (dk_at dksX3_wordAt_1 13 rfl rfl)
theorem dX3_wordAt_38 : decode cX3_wordAt 38 = .ok (.iaload, 1) := dk_46 (dk_at dksX3_wordAt_1 14 rfl rfl)
theorem dX3_wordAt_39 : decode cX3_wordAt 39 = .ok (.aload_n 0, 1) := dk_42 (dk_at dksX3_wordAt_1 15 rfl rfl)
theorem dX3_wordAt_40 : decode cX3_wordAt 40 = .ok (.getfield 38, 3) := dk_180 0 38 (dk_at dksX3_wordAt_1 16 rfl rfl)
theorem dX3_wordAt_43 : decode cX3_wordAt 43 = .ok (.iload_n 1, 1) := dk_27 (dk_at dksX3_wordAt_1 19 rfl rfl)
theorem dX3_wordAt_44 : decode cX3_wordAt 44 = .ok (.iload 5, 2) := dk_21 5 (dk_at dksX3_wordAt_1 20 rfl rfl)
theorem dX3_wordAt_46 : decode cX3_wordAt 46 = .ok (.iadd, 1) := dk_96 (dk_at dksX3_wordAt_1 22 rfl rfl)
theorem dX3_wordAt_47 : decode cX3_wordAt 47 = .ok (.iaload, 1) := dk_46 (dk_at dksX3_wordAt_1 23 rfl rfl)
theorem dX3_wordAt_48 : decode cX3_wordAt 48 = .ok (.if_icmp .ne 12, 3) := dk_160 0 12 (dk_at dksX3_wordAt_2 0 rfl rfl)
theorem dX3_wordAt_51 : decode cX3_wordAt 51 = .ok (.iload 5, 2) := dk_21 5 (dk_at dksX3_wordAt_2 3 rfl rfl)
theorem dX3_wordAt_53 : decode cX3_wordAt 53 = .ok (.iconst 1, 1) := dk_4 (dk_at dksX3_wordAt_2 5 rfl rfl)
theorem dX3_wordAt_54 : decode cX3_wordAt 54 = .ok (.iadd, 1) := dk_96 (dk_at dksX3_wordAt_2 6 rfl rfl)
theorem dX3_wordAt_55 : decode cX3_wordAt 55 = .ok (.istore 5, 2) := dk_54 5 (dk_at dksX3_wordAt_2 7 rfl rfl)
theorem dX3_wordAt_57 : decode cX3_wordAt 57 = .ok (.goto (-38), 3) := dk_167 255 218 (dk_at dksX3_wordAt_2 9 rfl rfl)
theorem dX3_wordAt_60 : decode cX3_wordAt 60 = .ok (.iload_n 1, 1) := dk_27 (dk_at dksX3_wordAt_2 12 rfl rfl)
theorem dX3_wordAt_61 : decode cX3_wordAt 61 = .ok (.iload 5, 2) := dk_21 5 (dk_at dksX3_wordAt_2 13 rfl rfl)
theorem dX3_wordAt_63 : decode cX3_wordAt 63 = .ok (.iadd, 1) := dk_96 (dk_at dksX3_wordAt_2 15 rfl rfl)
theorem dX3_wordAt_64 : decode cX3_wordAt 64 = .ok (.iload_n 2, 1) := dk_28 (dk_at dksX3_wordAt_2 16 rfl rfl)
theorem dX3_wordAt_65 : decode cX3_wordAt 65 = .ok (.if_icmp .ne 22, 3) := dk_160 0 22 (dk_at dksX3_wordAt_2 17 rfl rfl)
theorem dX3_wordAt_68 : decode cX3_wordAt 68 = .ok (.aload_n 0, 1) := dk_42 (dk_at dksX3_wordAt_2 20 rfl rfl)
theorem dX3_wordAt_69 : decode cX3_wordAt 69 = .ok (.getfield 41, 3) := dk_180 0 41 (dk_at dksX3_wordAt_2 21 rfl rfl)
theorem dX3_wordAt_72 : decode cX3_wordAt 72 = .ok (.iload 4, 2) := dk_21 4 (dk_at dksX3_wordAt_3 0 rfl rfl)
theorem dX3_wordAt_74 : decode cX3_wordAt 74 = .ok (.iconst 1, 1) := dk_4 (dk_at dksX3_wordAt_3 2 rfl rfl)
theorem dX3_wordAt_75 : decode cX3_wordAt 75 = .ok (.iadd, 1) := dk_96 (dk_at dksX3_wordAt_3 3 rfl rfl)
theorem dX3_wordAt_76 : decode cX3_wordAt 76 = .ok (.iload 5, 2) := dk_21 5 (dk_at dksX3_wordAt_3 4 rfl rfl)
theorem dX3_wordAt_78 : decode cX3_wordAt 78 = .ok (.iadd, 1) := dk_96 (dk_at dksX3_wordAt_3 6 rfl rfl)
theorem dX3_wordAt_79 : decode cX3_wordAt 79 = .ok (.iaload, 1) := dk_46 (dk_at dksX3_wordAt_3 7 rfl rfl)
theorem dX3_wordAt_80 : decode cX3_wordAt 80 = .ok (.bipush 32, 2) := dk_16 32 (dk_at dksX3_wordAt_3 8 rfl rfl)
theorem dX3_wordAt_82 : decode cX3_wordAt 82 = .ok (.if_icmp .ne 5, 3) := dk_160 0 5 (dk_at dksX3_wordAt_3 10 rfl rfl)
theorem dX3_wordAt_85 : decode cX3_wordAt 85 = .ok (.iload_n 3, 1) := dk_29 (dk_at dksX3_wordAt_3 13 rfl rfl)
theorem dX3_wordAt_86 : decode cX3_wordAt 86 = .ok (.ireturn, 1) := dk_172 (dk_at dksX3_wordAt_3 14 rfl rfl)
theorem dX3_wordAt_87 : decode cX3_wordAt 87 = .ok (.iload 4, 2) := dk_21 4 (dk_at dksX3_wordAt_3 15 rfl rfl)
theorem dX3_wordAt_89 : decode cX3_wordAt 89 = .ok (.iconst 1, 1) := dk_4 (dk_at dksX3_wordAt_3 17 rfl rfl)
theorem dX3_wordAt_90 : decode cX3_wordAt 90 = .ok (.iadd, 1) := dk_96 (dk_at dksX3_wordAt_3 18 rfl rfl)
theorem dX3_wordAt_91 : decode cX3_wordAt 91 = .ok (.istore 4, 2) := dk_54 4 (dk_at dksX3_wordAt_3 19 rfl rfl)
theorem dX3_wordAt_93 : decode cX3_wordAt 93 = .ok (.aload_n 0, 1) := dk_42 (dk_at dksX3_wordAt_3 21 rfl rfl)
theorem dX3_wordAt_94 : decode cX3_wordAt 94 = .ok (.getfield 41, 3) := dk_180 0 41 (dk_at dksX3_wordAt_4 0 rfl rfl)
theorem dX3_wordAt_97 : decode cX3_wordAt 97 = .ok (.iload 4, 2) := dk_21 4 (dk_at dksX3_wordAt_4 3 rfl rfl)
theorem dX3_wordAt_99 : decode cX3_wordAt 99 = .ok (.iaload, 1) := dk_46 (dk_at dksX3_wordAt_4 5 rfl rfl)
theorem dX3_wordAt_100 : decode cX3_wordAt 100 = .ok (.bipush 32, 2) := dk_16 32 (dk_at dksX3_wordAt_4 6 rfl rfl)
theorem dX3_wordAt_102 : decode cX3_wordAt 102 = .ok (.if_icmp .eq 12, 3) := dk_159 0 12 (dk_at dksX3_wordAt_4 8 rfl rfl)
theorem dX3_wordAt_105 : decode cX3_wordAt 105 = .ok (.iload 4, 2) := dk_21 4 (dk_at dksX3_wordAt_4 11 rfl rfl)
theorem dX3_wordAt_107 : decode cX3_wordAt 107 = .ok (.iconst 1, 1) := dk_4 (dk_at dksX3_wordAt_4 13 rfl rfl)
theorem dX3_wordAt_108 : decode cX3_wordAt 108 = .ok (.iadd, 1) := dk_96 (dk_at dksX3_wordAt_4 14 rfl rfl)
theorem dX3_wordAt_109 : decode cX3_wordAt 109 = .ok (.istore 4, 2) := dk_54 4 (dk_at dksX3_wordAt_4 15 rfl rfl)
theorem dX3_wordAt_111 : decode cX3_wordAt 111 = .ok (.goto (-18), 3) := dk_167 255 238 (dk_at dksX3_wordAt_4 17 rfl rfl)
theorem dX3_wordAt_114 : decode cX3_wordAt 114 = .ok (.goto (-109), 3) := dk_167 255 147 (dk_at dksX3_wordAt_4 20 rfl rfl)
theorem dX3_wordAt_117 : decode cX3_wordAt 117 = .ok (.iconst (-1), 1) := dk_2 (dk_at dksX3_wordAt_4 23 rfl rfl)
theorem dX3_wordAt_118 : decode cX3_wordAt 118 = .ok (.ireturn, 1) := dk_172 (dk_at dksX3_wordAt_5 0 rfl rfl)
abbrev cX3_isDigit : ByteArray := prog_14_method_30_code
def yX3_isDigit : MethodName := ⟨RX3, "isDigit", "(I)Z"⟩
def dkwX3_isDigit_0 : List UInt8 := [42, 27, 16, 48, 16, 57, 182, 0, 107, 172]
abbrev dktX3_isDigit_0 : List UInt8 := dkwX3_isDigit_0 ++ []
theorem dksX3_isDigit_0 : cX3_isDigit.data.toList.drop 0 = dktX3_isDigit_0 := by decide +kernel
theorem dX3_isDigit_0 : decode cX3_isDigit 0 = .ok (.aload_n 0, 1) := dk_42 (dk_at dksX3_isDigit_0 0 rfl rfl)
theorem dX3_isDigit_1 : decode cX3_isDigit 1 = .ok (.iload_n 1, 1) := dk_27 (dk_at dksX3_isDigit_0 1 rfl rfl)
theorem dX3_isDigit_2 : decode cX3_isDigit 2 = .ok (.bipush 48, 2) := dk_16 48 (dk_at dksX3_isDigit_0 2 rfl rfl)
theorem dX3_isDigit_4 : decode cX3_isDigit 4 = .ok (.bipush 57, 2) := dk_16 57 (dk_at dksX3_isDigit_0 4 rfl rfl)
theorem dX3_isDigit_6 : decode cX3_isDigit 6 = .ok (.invokevirtual 107, 3) := dk_182 0 107 (dk_at dksX3_isDigit_0 6 rfl rfl)
theorem dX3_isDigit_9 : decode cX3_isDigit 9 = .ok (.ireturn, 1) := dk_172 (dk_at dksX3_isDigit_0 9 rfl rfl)
abbrev cX3_isMarkSign : ByteArray := prog_14_method_31_code
def yX3_isMarkSign : MethodName := ⟨RX3, "isMarkSign", "(I)Z"⟩
def dkwX3_isMarkSign_2 : List UInt8 := [27, 16, 61, 159, 0, 9, 27, 16, 62, 160, 0, 7, 4, 167, 0, 4, 3, 172]
abbrev dktX3_isMarkSign_2 : List UInt8 := dkwX3_isMarkSign_2 ++ []
def dkwX3_isMarkSign_1 : List UInt8 := [27, 16, 47, 159, 0, 33, 27, 16, 40, 159, 0, 27, 27, 16, 41, 159, 0, 21, 27, 16, 60, 159, 0, 15]
abbrev dktX3_isMarkSign_1 : List UInt8 := dkwX3_isMarkSign_1 ++ dktX3_isMarkSign_2
def dkwX3_isMarkSign_0 : List UInt8 := [27, 16, 59, 159, 0, 57, 27, 16, 43, 159, 0, 51, 27, 16, 45, 159, 0, 45, 27, 16, 42, 159, 0, 39]
abbrev dktX3_isMarkSign_0 : List UInt8 := dkwX3_isMarkSign_0 ++ dktX3_isMarkSign_1
theorem dksX3_isMarkSign_0 : cX3_isMarkSign.data.toList.drop 0 = dktX3_isMarkSign_0 := by decide +kernel
theorem dksX3_isMarkSign_1 : cX3_isMarkSign.data.toList.drop 24 = dktX3_isMarkSign_1 := dk_seg dksX3_isMarkSign_0 24 rfl rfl
theorem dksX3_isMarkSign_2 : cX3_isMarkSign.data.toList.drop 48 = dktX3_isMarkSign_2 := dk_seg dksX3_isMarkSign_1 24 rfl rfl
theorem dX3_isMarkSign_0 : decode cX3_isMarkSign 0 = .ok (.iload_n 1, 1) := dk_27 (dk_at dksX3_isMarkSign_0 0 rfl rfl)
theorem dX3_isMarkSign_1 : decode cX3_isMarkSign 1 = .ok (.bipush 59, 2) := dk_16 59 (dk_at dksX3_isMarkSign_0 1 rfl rfl)
theorem dX3_isMarkSign_3 : decode cX3_isMarkSign 3 = .ok (.if_icmp .eq 57, 3) := dk_159 0 57 (dk_at dksX3_isMarkSign_0 3 rfl rfl)
theorem dX3_isMarkSign_6 : decode cX3_isMarkSign 6 = .ok (.iload_n 1, 1) := dk_27 (dk_at dksX3_isMarkSign_0 6 rfl rfl)
theorem dX3_isMarkSign_7 : decode cX3_isMarkSign 7 = .ok (.bipush 43, 2) := dk_16 43 (dk_at dksX3_isMarkSign_0 7 rfl rfl)
theorem dX3_isMarkSign_9 : decode cX3_isMarkSign 9 = .ok (.if_icmp .eq 51, 3) := dk_159 0 51 (dk_at dksX3_isMarkSign_0 9 rfl rfl)
theorem dX3_isMarkSign_12 : decode cX3_isMarkSign 12 = .ok (.iload_n 1, 1) := dk_27 (dk_at dksX3_isMarkSign_0 12 rfl rfl)
theorem dX3_isMarkSign_13 : decode cX3_isMarkSign 13 = .ok (.bipush 45, 2) := dk_16 45 (dk_at dksX3_isMarkSign_0 13 rfl rfl)
theorem dX3_isMarkSign_15 : decode cX3_isMarkSign 15 = .ok (.if_icmp .eq 45, 3) := dk_159 0 45 (dk_at dksX3_isMarkSign_0 15 rfl rfl)
theorem dX3_isMarkSign_18 : decode cX3_isMarkSign 18 = .ok (.iload_n 1, 1) := dk_27 (dk_at dksX3_isMarkSign_0 18 rfl rfl)
theorem dX3_isMarkSign_19 : decode cX3_isMarkSign 19 = .ok (.bipush 42, 2) := dk_16 42 (dk_at dksX3_isMarkSign_0 19 rfl rfl)
theorem dX3_isMarkSign_21 : decode cX3_isMarkSign 21 = .ok (.if_icmp .eq 39, 3) := dk_159 0 39 (dk_at dksX3_isMarkSign_0 21 rfl rfl)
theorem dX3_isMarkSign_24 : decode cX3_isMarkSign 24 = .ok (.iload_n 1, 1) := dk_27 (dk_at dksX3_isMarkSign_1 0 rfl rfl)
theorem dX3_isMarkSign_25 : decode cX3_isMarkSign 25 = .ok (.bipush 47, 2) := dk_16 47 (dk_at dksX3_isMarkSign_1 1 rfl rfl)
theorem dX3_isMarkSign_27 : decode cX3_isMarkSign 27 = .ok (.if_icmp .eq 33, 3) := dk_159 0 33 (dk_at dksX3_isMarkSign_1 3 rfl rfl)
theorem dX3_isMarkSign_30 : decode cX3_isMarkSign 30 = .ok (.iload_n 1, 1) := dk_27 (dk_at dksX3_isMarkSign_1 6 rfl rfl)
theorem dX3_isMarkSign_31 : decode cX3_isMarkSign 31 = .ok (.bipush 40, 2) := dk_16 40 (dk_at dksX3_isMarkSign_1 7 rfl rfl)
theorem dX3_isMarkSign_33 : decode cX3_isMarkSign 33 = .ok (.if_icmp .eq 27, 3) := dk_159 0 27 (dk_at dksX3_isMarkSign_1 9 rfl rfl)
theorem dX3_isMarkSign_36 : decode cX3_isMarkSign 36 = .ok (.iload_n 1, 1) := dk_27 (dk_at dksX3_isMarkSign_1 12 rfl rfl)
theorem dX3_isMarkSign_37 : decode cX3_isMarkSign 37 = .ok (.bipush 41, 2) := dk_16 41 (dk_at dksX3_isMarkSign_1 13 rfl rfl)
theorem dX3_isMarkSign_39 : decode cX3_isMarkSign 39 = .ok (.if_icmp .eq 21, 3) := dk_159 0 21 (dk_at dksX3_isMarkSign_1 15 rfl rfl)
theorem dX3_isMarkSign_42 : decode cX3_isMarkSign 42 = .ok (.iload_n 1, 1) := dk_27 (dk_at dksX3_isMarkSign_1 18 rfl rfl)
theorem dX3_isMarkSign_43 : decode cX3_isMarkSign 43 = .ok (.bipush 60, 2) := dk_16 60 (dk_at dksX3_isMarkSign_1 19 rfl rfl)
theorem dX3_isMarkSign_45 : decode cX3_isMarkSign 45 = .ok (.if_icmp .eq 15, 3) := dk_159 0 15 (dk_at dksX3_isMarkSign_1 21 rfl rfl)
theorem dX3_isMarkSign_48 : decode cX3_isMarkSign 48 = .ok (.iload_n 1, 1) := dk_27 (dk_at dksX3_isMarkSign_2 0 rfl rfl)
theorem dX3_isMarkSign_49 : decode cX3_isMarkSign 49 = .ok (.bipush 61, 2) := dk_16 61 (dk_at dksX3_isMarkSign_2 1 rfl rfl)
theorem dX3_isMarkSign_51 : decode cX3_isMarkSign 51 = .ok (.if_icmp .eq 9, 3) := dk_159 0 9 (dk_at dksX3_isMarkSign_2 3 rfl rfl)
theorem dX3_isMarkSign_54 : decode cX3_isMarkSign 54 = .ok (.iload_n 1, 1) := dk_27 (dk_at dksX3_isMarkSign_2 6 rfl rfl)
theorem dX3_isMarkSign_55 : decode cX3_isMarkSign 55 = .ok (.bipush 62, 2) := dk_16 62 (dk_at dksX3_isMarkSign_2 7 rfl rfl)
theorem dX3_isMarkSign_57 : decode cX3_isMarkSign 57 = .ok (.if_icmp .ne 7, 3) := dk_160 0 7 (dk_at dksX3_isMarkSign_2 9 rfl rfl)
theorem dX3_isMarkSign_60 : decode cX3_isMarkSign 60 = .ok (.iconst 1, 1) := dk_4 (dk_at dksX3_isMarkSign_2 12 rfl rfl)
theorem dX3_isMarkSign_61 : decode cX3_isMarkSign 61 = .ok (.goto 4, 3) := dk_167 0 4 (dk_at dksX3_isMarkSign_2 13 rfl rfl)
theorem dX3_isMarkSign_64 : decode cX3_isMarkSign 64 = .ok (.iconst 0, 1) := dk_3 (dk_at dksX3_isMarkSign_2 16 rfl rfl)
theorem dX3_isMarkSign_65 : decode cX3_isMarkSign 65 = .ok (.ireturn, 1) := dk_172 (dk_at dksX3_isMarkSign_2 17 rfl rfl)
abbrev cX3_readText : ByteArray := prog_14_method_45_code
def yX3_readText : MethodName := ⟨RX3, "readText", "()I"⟩
def dkwX3_readText_5 : List UInt8 := [167, 255, 142, 42, 180, 0, 169, 154, 0, 7, 27, 167, 0, 8, 42, 4, 182, 0, 197, 172]
abbrev dktX3_readText_5 : List UInt8 := dkwX3_readText_5 ++ []
def dkwX3_readText_4 : List UInt8 := [16, 59, 182, 0, 210, 154, 0, 9, 42, 4, 182, 0, 197, 172, 42, 182, 0, 203, 27, 4, 96, 60]
abbrev dktX3_readText_4 : List UInt8 := dkwX3_readText_4 ++ dktX3_readText_5
def dkwX3_readText_3 : List UInt8 := [182, 0, 203, 42, 182, 0, 237, 2, 160, 0, 5, 2, 172, 42, 180, 0, 50, 28, 42, 180, 0, 194, 79, 42]
abbrev dktX3_readText_3 : List UInt8 := dkwX3_readText_3 ++ dktX3_readText_4
def dkwX3_readText_2 : List UInt8 := [160, 0, 5, 2, 172, 42, 180, 0, 44, 28, 42, 180, 0, 194, 79, 42, 4, 182, 0, 225, 153, 0, 17, 42]
abbrev dktX3_readText_2 : List UInt8 := dkwX3_readText_2 ++ dktX3_readText_3
def dkwX3_readText_1 : List UInt8 := [27, 96, 61, 42, 182, 0, 203, 42, 180, 0, 47, 28, 42, 180, 0, 194, 79, 42, 182, 0, 216, 2]
abbrev dktX3_readText_1 : List UInt8 := dkwX3_readText_1 ++ dktX3_readText_2
def dkwX3_readText_0 : List UInt8 := [3, 60, 42, 3, 182, 0, 225, 153, 0, 112, 27, 16, 16, 160, 0, 9, 42, 6, 182, 0, 197, 172, 16, 16]
abbrev dktX3_readText_0 : List UInt8 := dkwX3_readText_0 ++ dktX3_readText_1
theorem dksX3_readText_0 : cX3_readText.data.toList.drop 0 = dktX3_readText_0 := by decide +kernel
theorem dksX3_readText_1 : cX3_readText.data.toList.drop 24 = dktX3_readText_1 := dk_seg dksX3_readText_0 24 rfl rfl
theorem dksX3_readText_2 : cX3_readText.data.toList.drop 46 = dktX3_readText_2 := dk_seg dksX3_readText_1 22 rfl rfl
theorem dksX3_readText_3 : cX3_readText.data.toList.drop 70 = dktX3_readText_3 := dk_seg dksX3_readText_2 24 rfl rfl
theorem dksX3_readText_4 : cX3_readText.data.toList.drop 94 = dktX3_readText_4 := dk_seg dksX3_readText_3 24 rfl rfl
theorem dksX3_readText_5 : cX3_readText.data.toList.drop 116 = dktX3_readText_5 := dk_seg dksX3_readText_4 22 rfl rfl
theorem dX3_readText_0 : decode cX3_readText 0 = .ok (.iconst 0, 1) := dk_3 (dk_at dksX3_readText_0 0 rfl rfl)
theorem dX3_readText_1 : decode cX3_readText 1 = .ok (.istore_n 1, 1) := dk_60 (dk_at dksX3_readText_0 1 rfl rfl)
theorem dX3_readText_2 : decode cX3_readText 2 = .ok (.aload_n 0, 1) := dk_42 (dk_at dksX3_readText_0 2 rfl rfl)
theorem dX3_readText_3 : decode cX3_readText 3 = .ok (.iconst 0, 1) := dk_3 (dk_at dksX3_readText_0 3 rfl rfl)
theorem dX3_readText_4 : decode cX3_readText 4 = .ok (.invokevirtual 225, 3) := dk_182 0 225 (dk_at dksX3_readText_0 4 rfl rfl)
theorem dX3_readText_7 : decode cX3_readText 7 = .ok (.ifCond .eq 112, 3) := dk_153 0 112 (dk_at dksX3_readText_0 7 rfl rfl)
theorem dX3_readText_10 : decode cX3_readText 10 = .ok (.iload_n 1, 1) := dk_27 (dk_at dksX3_readText_0 10 rfl rfl)
theorem dX3_readText_11 : decode cX3_readText 11 = .ok (.bipush 16, 2) := dk_16 16 (dk_at dksX3_readText_0 11 rfl rfl)
theorem dX3_readText_13 : decode cX3_readText 13 = .ok (.if_icmp .ne 9, 3) := dk_160 0 9 (dk_at dksX3_readText_0 13 rfl rfl)
theorem dX3_readText_16 : decode cX3_readText 16 = .ok (.aload_n 0, 1) := dk_42 (dk_at dksX3_readText_0 16 rfl rfl)
theorem dX3_readText_17 : decode cX3_readText 17 = .ok (.iconst 3, 1) := dk_6 (dk_at dksX3_readText_0 17 rfl rfl)
theorem dX3_readText_18 : decode cX3_readText 18 = .ok (.invokevirtual 197, 3) := dk_182 0 197 (dk_at dksX3_readText_0 18 rfl rfl)
theorem dX3_readText_21 : decode cX3_readText 21 = .ok (.ireturn, 1) := dk_172 (dk_at dksX3_readText_0 21 rfl rfl)
theorem dX3_readText_22 : decode cX3_readText 22 = .ok (.bipush 16, 2) := dk_16 16 (dk_at dksX3_readText_0 22 rfl rfl)
theorem dX3_readText_24 : decode cX3_readText 24 = .ok (.iload_n 1, 1) := dk_27 (dk_at dksX3_readText_1 0 rfl rfl)
theorem dX3_readText_25 : decode cX3_readText 25 = .ok (.iadd, 1) := dk_96 (dk_at dksX3_readText_1 1 rfl rfl)
theorem dX3_readText_26 : decode cX3_readText 26 = .ok (.istore_n 2, 1) := dk_61 (dk_at dksX3_readText_1 2 rfl rfl)
theorem dX3_readText_27 : decode cX3_readText 27 = .ok (.aload_n 0, 1) := dk_42 (dk_at dksX3_readText_1 3 rfl rfl)
theorem dX3_readText_28 : decode cX3_readText 28 = .ok (.invokevirtual 203, 3) := dk_182 0 203 (dk_at dksX3_readText_1 4 rfl rfl)
theorem dX3_readText_31 : decode cX3_readText 31 = .ok (.aload_n 0, 1) := dk_42 (dk_at dksX3_readText_1 7 rfl rfl)
theorem dX3_readText_32 : decode cX3_readText 32 = .ok (.getfield 47, 3) := dk_180 0 47 (dk_at dksX3_readText_1 8 rfl rfl)
theorem dX3_readText_35 : decode cX3_readText 35 = .ok (.iload_n 2, 1) := dk_28 (dk_at dksX3_readText_1 11 rfl rfl)
theorem dX3_readText_36 : decode cX3_readText 36 = .ok (.aload_n 0, 1) := dk_42 (dk_at dksX3_readText_1 12 rfl rfl)
theorem dX3_readText_37 : decode cX3_readText 37 = .ok (.getfield 194, 3) := dk_180 0 194 (dk_at dksX3_readText_1 13 rfl rfl)
theorem dX3_readText_40 : decode cX3_readText 40 = .ok (.iastore, 1) := dk_79 (dk_at dksX3_readText_1 16 rfl rfl)
theorem dX3_readText_41 : decode cX3_readText 41 = .ok (.aload_n 0, 1) := dk_42 (dk_at dksX3_readText_1 17 rfl rfl)
theorem dX3_readText_42 : decode cX3_readText 42 = .ok (.invokevirtual 216, 3) := dk_182 0 216 (dk_at dksX3_readText_1 18 rfl rfl)
theorem dX3_readText_45 : decode cX3_readText 45 = .ok (.iconst (-1), 1) := dk_2 (dk_at dksX3_readText_1 21 rfl rfl)
theorem dX3_readText_46 : decode cX3_readText 46 = .ok (.if_icmp .ne 5, 3) := dk_160 0 5 (dk_at dksX3_readText_2 0 rfl rfl)
theorem dX3_readText_49 : decode cX3_readText 49 = .ok (.iconst (-1), 1) := dk_2 (dk_at dksX3_readText_2 3 rfl rfl)
theorem dX3_readText_50 : decode cX3_readText 50 = .ok (.ireturn, 1) := dk_172 (dk_at dksX3_readText_2 4 rfl rfl)
theorem dX3_readText_51 : decode cX3_readText 51 = .ok (.aload_n 0, 1) := dk_42 (dk_at dksX3_readText_2 5 rfl rfl)
theorem dX3_readText_52 : decode cX3_readText 52 = .ok (.getfield 44, 3) := dk_180 0 44 (dk_at dksX3_readText_2 6 rfl rfl)
theorem dX3_readText_55 : decode cX3_readText 55 = .ok (.iload_n 2, 1) := dk_28 (dk_at dksX3_readText_2 9 rfl rfl)
theorem dX3_readText_56 : decode cX3_readText 56 = .ok (.aload_n 0, 1) := dk_42 (dk_at dksX3_readText_2 10 rfl rfl)
theorem dX3_readText_57 : decode cX3_readText 57 = .ok (.getfield 194, 3) := dk_180 0 194 (dk_at dksX3_readText_2 11 rfl rfl)
theorem dX3_readText_60 : decode cX3_readText 60 = .ok (.iastore, 1) := dk_79 (dk_at dksX3_readText_2 14 rfl rfl)
theorem dX3_readText_61 : decode cX3_readText 61 = .ok (.aload_n 0, 1) := dk_42 (dk_at dksX3_readText_2 15 rfl rfl)
theorem dX3_readText_62 : decode cX3_readText 62 = .ok (.iconst 1, 1) := dk_4 (dk_at dksX3_readText_2 16 rfl rfl)
theorem dX3_readText_63 : decode cX3_readText 63 = .ok (.invokevirtual 225, 3) := dk_182 0 225 (dk_at dksX3_readText_2 17 rfl rfl)
theorem dX3_readText_66 : decode cX3_readText 66 = .ok (.ifCond .eq 17, 3) := dk_153 0 17 (dk_at dksX3_readText_2 20 rfl rfl)
theorem dX3_readText_69 : decode cX3_readText 69 = .ok (.aload_n 0, 1) := dk_42 (dk_at dksX3_readText_2 23 rfl rfl)
theorem dX3_readText_70 : decode cX3_readText 70 = .ok (.invokevirtual 203, 3) := dk_182 0 203 (dk_at dksX3_readText_3 0 rfl rfl)
theorem dX3_readText_73 : decode cX3_readText 73 = .ok (.aload_n 0, 1) := dk_42 (dk_at dksX3_readText_3 3 rfl rfl)
theorem dX3_readText_74 : decode cX3_readText 74 = .ok (.invokevirtual 237, 3) := dk_182 0 237 (dk_at dksX3_readText_3 4 rfl rfl)
theorem dX3_readText_77 : decode cX3_readText 77 = .ok (.iconst (-1), 1) := dk_2 (dk_at dksX3_readText_3 7 rfl rfl)
theorem dX3_readText_78 : decode cX3_readText 78 = .ok (.if_icmp .ne 5, 3) := dk_160 0 5 (dk_at dksX3_readText_3 8 rfl rfl)
theorem dX3_readText_81 : decode cX3_readText 81 = .ok (.iconst (-1), 1) := dk_2 (dk_at dksX3_readText_3 11 rfl rfl)
theorem dX3_readText_82 : decode cX3_readText 82 = .ok (.ireturn, 1) := dk_172 (dk_at dksX3_readText_3 12 rfl rfl)
theorem dX3_readText_83 : decode cX3_readText 83 = .ok (.aload_n 0, 1) := dk_42 (dk_at dksX3_readText_3 13 rfl rfl)
theorem dX3_readText_84 : decode cX3_readText 84 = .ok (.getfield 50, 3) := dk_180 0 50 (dk_at dksX3_readText_3 14 rfl rfl)
theorem dX3_readText_87 : decode cX3_readText 87 = .ok (.iload_n 2, 1) := dk_28 (dk_at dksX3_readText_3 17 rfl rfl)
theorem dX3_readText_88 : decode cX3_readText 88 = .ok (.aload_n 0, 1) := dk_42 (dk_at dksX3_readText_3 18 rfl rfl)
theorem dX3_readText_89 : decode cX3_readText 89 = .ok (.getfield 194, 3) := dk_180 0 194 (dk_at dksX3_readText_3 19 rfl rfl)
theorem dX3_readText_92 : decode cX3_readText 92 = .ok (.iastore, 1) := dk_79 (dk_at dksX3_readText_3 22 rfl rfl)
theorem dX3_readText_93 : decode cX3_readText 93 = .ok (.aload_n 0, 1) := dk_42 (dk_at dksX3_readText_3 23 rfl rfl)
theorem dX3_readText_94 : decode cX3_readText 94 = .ok (.bipush 59, 2) := dk_16 59 (dk_at dksX3_readText_4 0 rfl rfl)
theorem dX3_readText_96 : decode cX3_readText 96 = .ok (.invokevirtual 210, 3) := dk_182 0 210 (dk_at dksX3_readText_4 2 rfl rfl)
theorem dX3_readText_99 : decode cX3_readText 99 = .ok (.ifCond .ne 9, 3) := dk_154 0 9 (dk_at dksX3_readText_4 5 rfl rfl)
theorem dX3_readText_102 : decode cX3_readText 102 = .ok (.aload_n 0, 1) := dk_42 (dk_at dksX3_readText_4 8 rfl rfl)
theorem dX3_readText_103 : decode cX3_readText 103 = .ok (.iconst 1, 1) := dk_4 (dk_at dksX3_readText_4 9 rfl rfl)
theorem dX3_readText_104 : decode cX3_readText 104 = .ok (.invokevirtual 197, 3) := dk_182 0 197 (dk_at dksX3_readText_4 10 rfl rfl)
theorem dX3_readText_107 : decode cX3_readText 107 = .ok (.ireturn, 1) := dk_172 (dk_at dksX3_readText_4 13 rfl rfl)
theorem dX3_readText_108 : decode cX3_readText 108 = .ok (.aload_n 0, 1) := dk_42 (dk_at dksX3_readText_4 14 rfl rfl)
theorem dX3_readText_109 : decode cX3_readText 109 = .ok (.invokevirtual 203, 3) := dk_182 0 203 (dk_at dksX3_readText_4 15 rfl rfl)
theorem dX3_readText_112 : decode cX3_readText 112 = .ok (.iload_n 1, 1) := dk_27 (dk_at dksX3_readText_4 18 rfl rfl)
theorem dX3_readText_113 : decode cX3_readText 113 = .ok (.iconst 1, 1) := dk_4 (dk_at dksX3_readText_4 19 rfl rfl)
theorem dX3_readText_114 : decode cX3_readText 114 = .ok (.iadd, 1) := dk_96 (dk_at dksX3_readText_4 20 rfl rfl)
theorem dX3_readText_115 : decode cX3_readText 115 = .ok (.istore_n 1, 1) := dk_60 (dk_at dksX3_readText_4 21 rfl rfl)
theorem dX3_readText_116 : decode cX3_readText 116 = .ok (.goto (-114), 3) := dk_167 255 142 (dk_at dksX3_readText_5 0 rfl rfl)
theorem dX3_readText_119 : decode cX3_readText 119 = .ok (.aload_n 0, 1) := dk_42 (dk_at dksX3_readText_5 3 rfl rfl)
theorem dX3_readText_120 : decode cX3_readText 120 = .ok (.getfield 169, 3) := dk_180 0 169 (dk_at dksX3_readText_5 4 rfl rfl)
theorem dX3_readText_123 : decode cX3_readText 123 = .ok (.ifCond .ne 7, 3) := dk_154 0 7 (dk_at dksX3_readText_5 7 rfl rfl)
theorem dX3_readText_126 : decode cX3_readText 126 = .ok (.iload_n 1, 1) := dk_27 (dk_at dksX3_readText_5 10 rfl rfl)
theorem dX3_readText_127 : decode cX3_readText 127 = .ok (.goto 8, 3) := dk_167 0 8 (dk_at dksX3_readText_5 11 rfl rfl)
theorem dX3_readText_130 : decode cX3_readText 130 = .ok (.aload_n 0, 1) := dk_42 (dk_at dksX3_readText_5 14 rfl rfl)
theorem dX3_readText_131 : decode cX3_readText 131 = .ok (.iconst 1, 1) := dk_4 (dk_at dksX3_readText_5 15 rfl rfl)
theorem dX3_readText_132 : decode cX3_readText 132 = .ok (.invokevirtual 197, 3) := dk_182 0 197 (dk_at dksX3_readText_5 16 rfl rfl)
theorem dX3_readText_135 : decode cX3_readText 135 = .ok (.ireturn, 1) := dk_172 (dk_at dksX3_readText_5 19 rfl rfl)
abbrev cX3_isWord : ByteArray := prog_14_method_35_code
def yX3_isWord : MethodName := ⟨RX3, "isWord", "(I)Z"⟩
def dkwX3_isWord_0 : List UInt8 := [42, 180, 0, 169, 5, 160, 0, 15, 42, 180, 0, 172, 27, 160, 0, 7, 4, 167, 0, 4, 3, 172]
abbrev dktX3_isWord_0 : List UInt8 := dkwX3_isWord_0 ++ []
theorem dksX3_isWord_0 : cX3_isWord.data.toList.drop 0 = dktX3_isWord_0 := by decide +kernel
theorem dX3_isWord_0 : decode cX3_isWord 0 = .ok (.aload_n 0, 1) := dk_42 (dk_at dksX3_isWord_0 0 rfl rfl)
theorem dX3_isWord_1 : decode cX3_isWord 1 = .ok (.getfield 169, 3) := dk_180 0 169 (dk_at dksX3_isWord_0 1 rfl rfl)
theorem dX3_isWord_4 : decode cX3_isWord 4 = .ok (.iconst 2, 1) := dk_5 (dk_at dksX3_isWord_0 4 rfl rfl)
theorem dX3_isWord_5 : decode cX3_isWord 5 = .ok (.if_icmp .ne 15, 3) := dk_160 0 15 (dk_at dksX3_isWord_0 5 rfl rfl)
theorem dX3_isWord_8 : decode cX3_isWord 8 = .ok (.aload_n 0, 1) := dk_42 (dk_at dksX3_isWord_0 8 rfl rfl)
theorem dX3_isWord_9 : decode cX3_isWord 9 = .ok (.getfield 172, 3) := dk_180 0 172 (dk_at dksX3_isWord_0 9 rfl rfl)
theorem dX3_isWord_12 : decode cX3_isWord 12 = .ok (.iload_n 1, 1) := dk_27 (dk_at dksX3_isWord_0 12 rfl rfl)
theorem dX3_isWord_13 : decode cX3_isWord 13 = .ok (.if_icmp .ne 7, 3) := dk_160 0 7 (dk_at dksX3_isWord_0 13 rfl rfl)
theorem dX3_isWord_16 : decode cX3_isWord 16 = .ok (.iconst 1, 1) := dk_4 (dk_at dksX3_isWord_0 16 rfl rfl)
theorem dX3_isWord_17 : decode cX3_isWord 17 = .ok (.goto 4, 3) := dk_167 0 4 (dk_at dksX3_isWord_0 17 rfl rfl)
theorem dX3_isWord_20 : decode cX3_isWord 20 = .ok (.iconst 0, 1) := dk_3 (dk_at dksX3_isWord_0 20 rfl rfl)
theorem dX3_isWord_21 : decode cX3_isWord 21 = .ok (.ireturn, 1) := dk_172 (dk_at dksX3_isWord_0 21 rfl rfl)
abbrev cX3_errs : ByteArray := prog_14_method_34_code
def yX3_errs : MethodName := ⟨RX3, "errs", "(I)I"⟩
def dkwX3_errs_0 : List UInt8 := [42, 27, 181, 0, 188, 42, 42, 180, 0, 166, 181, 0, 191, 2, 172]
abbrev dktX3_errs_0 : List UInt8 := dkwX3_errs_0 ++ []
theorem dksX3_errs_0 : cX3_errs.data.toList.drop 0 = dktX3_errs_0 := by decide +kernel
theorem dX3_errs_0 : decode cX3_errs 0 = .ok (.aload_n 0, 1) := dk_42 (dk_at dksX3_errs_0 0 rfl rfl)
theorem dX3_errs_1 : decode cX3_errs 1 = .ok (.iload_n 1, 1) := dk_27 (dk_at dksX3_errs_0 1 rfl rfl)
theorem dX3_errs_2 : decode cX3_errs 2 = .ok (.putfield 188, 3) := dk_181 0 188 (dk_at dksX3_errs_0 2 rfl rfl)
theorem dX3_errs_5 : decode cX3_errs 5 = .ok (.aload_n 0, 1) := dk_42 (dk_at dksX3_errs_0 5 rfl rfl)
theorem dX3_errs_6 : decode cX3_errs 6 = .ok (.aload_n 0, 1) := dk_42 (dk_at dksX3_errs_0 6 rfl rfl)
theorem dX3_errs_7 : decode cX3_errs 7 = .ok (.getfield 166, 3) := dk_180 0 166 (dk_at dksX3_errs_0 7 rfl rfl)
theorem dX3_errs_10 : decode cX3_errs 10 = .ok (.putfield 191, 3) := dk_181 0 191 (dk_at dksX3_errs_0 10 rfl rfl)
theorem dX3_errs_13 : decode cX3_errs 13 = .ok (.iconst (-1), 1) := dk_2 (dk_at dksX3_errs_0 13 rfl rfl)
theorem dX3_errs_14 : decode cX3_errs 14 = .ok (.ireturn, 1) := dk_172 (dk_at dksX3_errs_0 14 rfl rfl)
abbrev cX3_readSum : ByteArray := prog_14_method_40_code
def yX3_readSum : MethodName := ⟨RX3, "readSum", "()I"⟩
def dkwX3_readSum_2 : List UInt8 := [182, 0, 203, 42, 182, 0, 213, 2, 160, 0, 5, 2, 172, 42, 27, 3, 182, 0, 200, 167, 255, 203, 3, 172]
abbrev dktX3_readSum_2 : List UInt8 := dkwX3_readSum_2 ++ []
def dkwX3_readSum_1 : List UInt8 := [182, 0, 210, 153, 0, 41, 42, 180, 0, 172, 16, 43, 160, 0, 7, 5, 167, 0, 4, 6, 60, 42]
abbrev dktX3_readSum_1 : List UInt8 := dkwX3_readSum_1 ++ dktX3_readSum_2
def dkwX3_readSum_0 : List UInt8 := [42, 182, 0, 213, 2, 160, 0, 5, 2, 172, 42, 16, 43, 182, 0, 210, 154, 0, 12, 42, 16, 45]
abbrev dktX3_readSum_0 : List UInt8 := dkwX3_readSum_0 ++ dktX3_readSum_1
theorem dksX3_readSum_0 : cX3_readSum.data.toList.drop 0 = dktX3_readSum_0 := by decide +kernel
theorem dksX3_readSum_1 : cX3_readSum.data.toList.drop 22 = dktX3_readSum_1 := dk_seg dksX3_readSum_0 22 rfl rfl
theorem dksX3_readSum_2 : cX3_readSum.data.toList.drop 44 = dktX3_readSum_2 := dk_seg dksX3_readSum_1 22 rfl rfl
theorem dX3_readSum_0 : decode cX3_readSum 0 = .ok (.aload_n 0, 1) := dk_42 (dk_at dksX3_readSum_0 0 rfl rfl)
theorem dX3_readSum_1 : decode cX3_readSum 1 = .ok (.invokevirtual 213, 3) := dk_182 0 213 (dk_at dksX3_readSum_0 1 rfl rfl)
theorem dX3_readSum_4 : decode cX3_readSum 4 = .ok (.iconst (-1), 1) := dk_2 (dk_at dksX3_readSum_0 4 rfl rfl)
theorem dX3_readSum_5 : decode cX3_readSum 5 = .ok (.if_icmp .ne 5, 3) := dk_160 0 5 (dk_at dksX3_readSum_0 5 rfl rfl)
theorem dX3_readSum_8 : decode cX3_readSum 8 = .ok (.iconst (-1), 1) := dk_2 (dk_at dksX3_readSum_0 8 rfl rfl)
theorem dX3_readSum_9 : decode cX3_readSum 9 = .ok (.ireturn, 1) := dk_172 (dk_at dksX3_readSum_0 9 rfl rfl)
theorem dX3_readSum_10 : decode cX3_readSum 10 = .ok (.aload_n 0, 1) := dk_42 (dk_at dksX3_readSum_0 10 rfl rfl)
theorem dX3_readSum_11 : decode cX3_readSum 11 = .ok (.bipush 43, 2) := dk_16 43 (dk_at dksX3_readSum_0 11 rfl rfl)
theorem dX3_readSum_13 : decode cX3_readSum 13 = .ok (.invokevirtual 210, 3) := dk_182 0 210 (dk_at dksX3_readSum_0 13 rfl rfl)
theorem dX3_readSum_16 : decode cX3_readSum 16 = .ok (.ifCond .ne 12, 3) := dk_154 0 12 (dk_at dksX3_readSum_0 16 rfl rfl)
theorem dX3_readSum_19 : decode cX3_readSum 19 = .ok (.aload_n 0, 1) := dk_42 (dk_at dksX3_readSum_0 19 rfl rfl)
theorem dX3_readSum_20 : decode cX3_readSum 20 = .ok (.bipush 45, 2) := dk_16 45 (dk_at dksX3_readSum_0 20 rfl rfl)
theorem dX3_readSum_22 : decode cX3_readSum 22 = .ok (.invokevirtual 210, 3) := dk_182 0 210 (dk_at dksX3_readSum_1 0 rfl rfl)
theorem dX3_readSum_25 : decode cX3_readSum 25 = .ok (.ifCond .eq 41, 3) := dk_153 0 41 (dk_at dksX3_readSum_1 3 rfl rfl)
theorem dX3_readSum_28 : decode cX3_readSum 28 = .ok (.aload_n 0, 1) := dk_42 (dk_at dksX3_readSum_1 6 rfl rfl)
theorem dX3_readSum_29 : decode cX3_readSum 29 = .ok (.getfield 172, 3) := dk_180 0 172 (dk_at dksX3_readSum_1 7 rfl rfl)
theorem dX3_readSum_32 : decode cX3_readSum 32 = .ok (.bipush 43, 2) := dk_16 43 (dk_at dksX3_readSum_1 10 rfl rfl)
theorem dX3_readSum_34 : decode cX3_readSum 34 = .ok (.if_icmp .ne 7, 3) := dk_160 0 7 (dk_at dksX3_readSum_1 12 rfl rfl)
theorem dX3_readSum_37 : decode cX3_readSum 37 = .ok (.iconst 2, 1) := dk_5 (dk_at dksX3_readSum_1 15 rfl rfl)
theorem dX3_readSum_38 : decode cX3_readSum 38 = .ok (.goto 4, 3) := dk_167 0 4 (dk_at dksX3_readSum_1 16 rfl rfl)
theorem dX3_readSum_41 : decode cX3_readSum 41 = .ok (.iconst 3, 1) := dk_6 (dk_at dksX3_readSum_1 19 rfl rfl)
theorem dX3_readSum_42 : decode cX3_readSum 42 = .ok (.istore_n 1, 1) := dk_60 (dk_at dksX3_readSum_1 20 rfl rfl)
theorem dX3_readSum_43 : decode cX3_readSum 43 = .ok (.aload_n 0, 1) := dk_42 (dk_at dksX3_readSum_1 21 rfl rfl)
theorem dX3_readSum_44 : decode cX3_readSum 44 = .ok (.invokevirtual 203, 3) := dk_182 0 203 (dk_at dksX3_readSum_2 0 rfl rfl)
theorem dX3_readSum_47 : decode cX3_readSum 47 = .ok (.aload_n 0, 1) := dk_42 (dk_at dksX3_readSum_2 3 rfl rfl)
theorem dX3_readSum_48 : decode cX3_readSum 48 = .ok (.invokevirtual 213, 3) := dk_182 0 213 (dk_at dksX3_readSum_2 4 rfl rfl)
theorem dX3_readSum_51 : decode cX3_readSum 51 = .ok (.iconst (-1), 1) := dk_2 (dk_at dksX3_readSum_2 7 rfl rfl)
theorem dX3_readSum_52 : decode cX3_readSum 52 = .ok (.if_icmp .ne 5, 3) := dk_160 0 5 (dk_at dksX3_readSum_2 8 rfl rfl)
theorem dX3_readSum_55 : decode cX3_readSum 55 = .ok (.iconst (-1), 1) := dk_2 (dk_at dksX3_readSum_2 11 rfl rfl)
theorem dX3_readSum_56 : decode cX3_readSum 56 = .ok (.ireturn, 1) := dk_172 (dk_at dksX3_readSum_2 12 rfl rfl)
theorem dX3_readSum_57 : decode cX3_readSum 57 = .ok (.aload_n 0, 1) := dk_42 (dk_at dksX3_readSum_2 13 rfl rfl)
theorem dX3_readSum_58 : decode cX3_readSum 58 = .ok (.iload_n 1, 1) := dk_27 (dk_at dksX3_readSum_2 14 rfl rfl)
theorem dX3_readSum_59 : decode cX3_readSum 59 = .ok (.iconst 0, 1) := dk_3 (dk_at dksX3_readSum_2 15 rfl rfl)
theorem dX3_readSum_60 : decode cX3_readSum 60 = .ok (.invokevirtual 200, 3) := dk_182 0 200 (dk_at dksX3_readSum_2 16 rfl rfl)
theorem dX3_readSum_63 : decode cX3_readSum 63 = .ok (.goto (-53), 3) := dk_167 255 203 (dk_at dksX3_readSum_2 19 rfl rfl)
theorem dX3_readSum_66 : decode cX3_readSum 66 = .ok (.iconst 0, 1) := dk_3 (dk_at dksX3_readSum_2 22 rfl rfl)
theorem dX3_readSum_67 : decode cX3_readSum 67 = .ok (.ireturn, 1) := dk_172 (dk_at dksX3_readSum_2 23 rfl rfl)
abbrev cX3_readProduct : ByteArray := prog_14_method_39_code
def yX3_readProduct : MethodName := ⟨RX3, "readProduct", "()I"⟩
def dkwX3_readProduct_4 : List UInt8 := [167, 0, 4, 8, 3, 182, 0, 200, 167, 255, 168, 3, 172]
abbrev dktX3_readProduct_4 : List UInt8 := dkwX3_readProduct_4 ++ []
def dkwX3_readProduct_3 : List UInt8 := [42, 5, 182, 0, 197, 172, 42, 182, 0, 206, 2, 160, 0, 5, 2, 172, 42, 27, 153, 0, 7, 7]
abbrev dktX3_readProduct_3 : List UInt8 := dkwX3_readProduct_3 ++ dktX3_readProduct_4
def dkwX3_readProduct_2 : List UInt8 := [180, 0, 169, 6, 159, 0, 9, 42, 4, 182, 0, 197, 172, 27, 154, 0, 16, 42, 180, 0, 172, 154, 0, 9]
abbrev dktX3_readProduct_2 : List UInt8 := dkwX3_readProduct_2 ++ dktX3_readProduct_3
def dkwX3_readProduct_1 : List UInt8 := [182, 0, 210, 153, 0, 76, 42, 16, 42, 182, 0, 210, 60, 42, 182, 0, 203, 27, 154, 0, 17, 42]
abbrev dktX3_readProduct_1 : List UInt8 := dkwX3_readProduct_1 ++ dktX3_readProduct_2
def dkwX3_readProduct_0 : List UInt8 := [42, 182, 0, 206, 2, 160, 0, 5, 2, 172, 42, 16, 42, 182, 0, 210, 154, 0, 12, 42, 16, 47]
abbrev dktX3_readProduct_0 : List UInt8 := dkwX3_readProduct_0 ++ dktX3_readProduct_1
theorem dksX3_readProduct_0 : cX3_readProduct.data.toList.drop 0 = dktX3_readProduct_0 := by decide +kernel
theorem dksX3_readProduct_1 : cX3_readProduct.data.toList.drop 22 = dktX3_readProduct_1 := dk_seg dksX3_readProduct_0 22 rfl rfl
theorem dksX3_readProduct_2 : cX3_readProduct.data.toList.drop 44 = dktX3_readProduct_2 := dk_seg dksX3_readProduct_1 22 rfl rfl
theorem dksX3_readProduct_3 : cX3_readProduct.data.toList.drop 68 = dktX3_readProduct_3 := dk_seg dksX3_readProduct_2 24 rfl rfl
theorem dksX3_readProduct_4 : cX3_readProduct.data.toList.drop 90 = dktX3_readProduct_4 := dk_seg dksX3_readProduct_3 22 rfl rfl
theorem dX3_readProduct_0 : decode cX3_readProduct 0 = .ok (.aload_n 0, 1) := dk_42 (dk_at dksX3_readProduct_0 0 rfl rfl)
theorem dX3_readProduct_1 : decode cX3_readProduct 1 = .ok (.invokevirtual 206, 3) := dk_182 0 206 (dk_at dksX3_readProduct_0 1 rfl rfl)
theorem dX3_readProduct_4 : decode cX3_readProduct 4 = .ok (.iconst (-1), 1) := dk_2 (dk_at dksX3_readProduct_0 4 rfl rfl)
theorem dX3_readProduct_5 : decode cX3_readProduct 5 = .ok (.if_icmp .ne 5, 3) := dk_160 0 5 (dk_at dksX3_readProduct_0 5 rfl rfl)
theorem dX3_readProduct_8 : decode cX3_readProduct 8 = .ok (.iconst (-1), 1) := dk_2 (dk_at dksX3_readProduct_0 8 rfl rfl)
theorem dX3_readProduct_9 : decode cX3_readProduct 9 = .ok (.ireturn, 1) := dk_172 (dk_at dksX3_readProduct_0 9 rfl rfl)
theorem dX3_readProduct_10 : decode cX3_readProduct 10 = .ok (.aload_n 0, 1) := dk_42 (dk_at dksX3_readProduct_0 10 rfl rfl)
theorem dX3_readProduct_11 : decode cX3_readProduct 11 = .ok (.bipush 42, 2) := dk_16 42 (dk_at dksX3_readProduct_0 11 rfl rfl)
theorem dX3_readProduct_13 : decode cX3_readProduct 13 = .ok (.invokevirtual 210, 3) := dk_182 0 210 (dk_at dksX3_readProduct_0 13 rfl rfl)
theorem dX3_readProduct_16 : decode cX3_readProduct 16 = .ok (.ifCond .ne 12, 3) := dk_154 0 12 (dk_at dksX3_readProduct_0 16 rfl rfl)
theorem dX3_readProduct_19 : decode cX3_readProduct 19 = .ok (.aload_n 0, 1) := dk_42 (dk_at dksX3_readProduct_0 19 rfl rfl)
theorem dX3_readProduct_20 : decode cX3_readProduct 20 = .ok (.bipush 47, 2) := dk_16 47 (dk_at dksX3_readProduct_0 20 rfl rfl)
theorem dX3_readProduct_22 : decode cX3_readProduct 22 = .ok (.invokevirtual 210, 3) := dk_182 0 210 (dk_at dksX3_readProduct_1 0 rfl rfl)
theorem dX3_readProduct_25 : decode cX3_readProduct 25 = .ok (.ifCond .eq 76, 3) := dk_153 0 76 (dk_at dksX3_readProduct_1 3 rfl rfl)
theorem dX3_readProduct_28 : decode cX3_readProduct 28 = .ok (.aload_n 0, 1) := dk_42 (dk_at dksX3_readProduct_1 6 rfl rfl)
theorem dX3_readProduct_29 : decode cX3_readProduct 29 = .ok (.bipush 42, 2) := dk_16 42 (dk_at dksX3_readProduct_1 7 rfl rfl)
theorem dX3_readProduct_31 : decode cX3_readProduct 31 = .ok (.invokevirtual 210, 3) := dk_182 0 210 (dk_at dksX3_readProduct_1 9 rfl rfl)
theorem dX3_readProduct_34 : decode cX3_readProduct 34 = .ok (.istore_n 1, 1) := dk_60 (dk_at dksX3_readProduct_1 12 rfl rfl)
theorem dX3_readProduct_35 : decode cX3_readProduct 35 = .ok (.aload_n 0, 1) := dk_42 (dk_at dksX3_readProduct_1 13 rfl rfl)
theorem dX3_readProduct_36 : decode cX3_readProduct 36 = .ok (.invokevirtual 203, 3) := dk_182 0 203 (dk_at dksX3_readProduct_1 14 rfl rfl)
theorem dX3_readProduct_39 : decode cX3_readProduct 39 = .ok (.iload_n 1, 1) := dk_27 (dk_at dksX3_readProduct_1 17 rfl rfl)
theorem dX3_readProduct_40 : decode cX3_readProduct 40 = .ok (.ifCond .ne 17, 3) := dk_154 0 17 (dk_at dksX3_readProduct_1 18 rfl rfl)
theorem dX3_readProduct_43 : decode cX3_readProduct 43 = .ok (.aload_n 0, 1) := dk_42 (dk_at dksX3_readProduct_1 21 rfl rfl)
theorem dX3_readProduct_44 : decode cX3_readProduct 44 = .ok (.getfield 169, 3) := dk_180 0 169 (dk_at dksX3_readProduct_2 0 rfl rfl)
theorem dX3_readProduct_47 : decode cX3_readProduct 47 = .ok (.iconst 3, 1) := dk_6 (dk_at dksX3_readProduct_2 3 rfl rfl)
theorem dX3_readProduct_48 : decode cX3_readProduct 48 = .ok (.if_icmp .eq 9, 3) := dk_159 0 9 (dk_at dksX3_readProduct_2 4 rfl rfl)
theorem dX3_readProduct_51 : decode cX3_readProduct 51 = .ok (.aload_n 0, 1) := dk_42 (dk_at dksX3_readProduct_2 7 rfl rfl)
theorem dX3_readProduct_52 : decode cX3_readProduct 52 = .ok (.iconst 1, 1) := dk_4 (dk_at dksX3_readProduct_2 8 rfl rfl)
theorem dX3_readProduct_53 : decode cX3_readProduct 53 = .ok (.invokevirtual 197, 3) := dk_182 0 197 (dk_at dksX3_readProduct_2 9 rfl rfl)
theorem dX3_readProduct_56 : decode cX3_readProduct 56 = .ok (.ireturn, 1) := dk_172 (dk_at dksX3_readProduct_2 12 rfl rfl)
theorem dX3_readProduct_57 : decode cX3_readProduct 57 = .ok (.iload_n 1, 1) := dk_27 (dk_at dksX3_readProduct_2 13 rfl rfl)
theorem dX3_readProduct_58 : decode cX3_readProduct 58 = .ok (.ifCond .ne 16, 3) := dk_154 0 16 (dk_at dksX3_readProduct_2 14 rfl rfl)
theorem dX3_readProduct_61 : decode cX3_readProduct 61 = .ok (.aload_n 0, 1) := dk_42 (dk_at dksX3_readProduct_2 17 rfl rfl)
theorem dX3_readProduct_62 : decode cX3_readProduct 62 = .ok (.getfield 172, 3) := dk_180 0 172 (dk_at dksX3_readProduct_2 18 rfl rfl)
theorem dX3_readProduct_65 : decode cX3_readProduct 65 = .ok (.ifCond .ne 9, 3) := dk_154 0 9 (dk_at dksX3_readProduct_2 21 rfl rfl)
theorem dX3_readProduct_68 : decode cX3_readProduct 68 = .ok (.aload_n 0, 1) := dk_42 (dk_at dksX3_readProduct_3 0 rfl rfl)
theorem dX3_readProduct_69 : decode cX3_readProduct 69 = .ok (.iconst 2, 1) := dk_5 (dk_at dksX3_readProduct_3 1 rfl rfl)
theorem dX3_readProduct_70 : decode cX3_readProduct 70 = .ok (.invokevirtual 197, 3) := dk_182 0 197 (dk_at dksX3_readProduct_3 2 rfl rfl)
theorem dX3_readProduct_73 : decode cX3_readProduct 73 = .ok (.ireturn, 1) := dk_172 (dk_at dksX3_readProduct_3 5 rfl rfl)
theorem dX3_readProduct_74 : decode cX3_readProduct 74 = .ok (.aload_n 0, 1) := dk_42 (dk_at dksX3_readProduct_3 6 rfl rfl)
theorem dX3_readProduct_75 : decode cX3_readProduct 75 = .ok (.invokevirtual 206, 3) := dk_182 0 206 (dk_at dksX3_readProduct_3 7 rfl rfl)
theorem dX3_readProduct_78 : decode cX3_readProduct 78 = .ok (.iconst (-1), 1) := dk_2 (dk_at dksX3_readProduct_3 10 rfl rfl)
theorem dX3_readProduct_79 : decode cX3_readProduct 79 = .ok (.if_icmp .ne 5, 3) := dk_160 0 5 (dk_at dksX3_readProduct_3 11 rfl rfl)
theorem dX3_readProduct_82 : decode cX3_readProduct 82 = .ok (.iconst (-1), 1) := dk_2 (dk_at dksX3_readProduct_3 14 rfl rfl)
theorem dX3_readProduct_83 : decode cX3_readProduct 83 = .ok (.ireturn, 1) := dk_172 (dk_at dksX3_readProduct_3 15 rfl rfl)
theorem dX3_readProduct_84 : decode cX3_readProduct 84 = .ok (.aload_n 0, 1) := dk_42 (dk_at dksX3_readProduct_3 16 rfl rfl)
theorem dX3_readProduct_85 : decode cX3_readProduct 85 = .ok (.iload_n 1, 1) := dk_27 (dk_at dksX3_readProduct_3 17 rfl rfl)
theorem dX3_readProduct_86 : decode cX3_readProduct 86 = .ok (.ifCond .eq 7, 3) := dk_153 0 7 (dk_at dksX3_readProduct_3 18 rfl rfl)
theorem dX3_readProduct_89 : decode cX3_readProduct 89 = .ok (.iconst 4, 1) := dk_7 (dk_at dksX3_readProduct_3 21 rfl rfl)
theorem dX3_readProduct_90 : decode cX3_readProduct 90 = .ok (.goto 4, 3) := dk_167 0 4 (dk_at dksX3_readProduct_4 0 rfl rfl)
theorem dX3_readProduct_93 : decode cX3_readProduct 93 = .ok (.iconst 5, 1) := dk_8 (dk_at dksX3_readProduct_4 3 rfl rfl)
theorem dX3_readProduct_94 : decode cX3_readProduct 94 = .ok (.iconst 0, 1) := dk_3 (dk_at dksX3_readProduct_4 4 rfl rfl)
theorem dX3_readProduct_95 : decode cX3_readProduct 95 = .ok (.invokevirtual 200, 3) := dk_182 0 200 (dk_at dksX3_readProduct_4 5 rfl rfl)
theorem dX3_readProduct_98 : decode cX3_readProduct 98 = .ok (.goto (-88), 3) := dk_167 255 168 (dk_at dksX3_readProduct_4 8 rfl rfl)
theorem dX3_readProduct_101 : decode cX3_readProduct 101 = .ok (.iconst 0, 1) := dk_3 (dk_at dksX3_readProduct_4 11 rfl rfl)
theorem dX3_readProduct_102 : decode cX3_readProduct 102 = .ok (.ireturn, 1) := dk_172 (dk_at dksX3_readProduct_4 12 rfl rfl)
abbrev cX3_readUnit : ByteArray := prog_14_method_38_code
def yX3_readUnit : MethodName := ⟨RX3, "readUnit", "()I"⟩
def dkwX3_readUnit_3 : List UInt8 := [42, 182, 0, 203, 3, 172]
abbrev dktX3_readUnit_3 : List UInt8 := dkwX3_readUnit_3 ++ []
def dkwX3_readUnit_2 : List UInt8 := [167, 0, 4, 3, 27, 153, 0, 12, 42, 180, 0, 172, 8, 100, 167, 0, 7, 42, 180, 0, 172, 182, 0, 200]
abbrev dktX3_readUnit_2 : List UInt8 := dkwX3_readUnit_2 ++ dktX3_readUnit_3
def dkwX3_readUnit_1 : List UInt8 := [154, 0, 17, 42, 180, 0, 169, 6, 159, 0, 9, 42, 4, 182, 0, 197, 172, 42, 27, 153, 0, 7, 4]
abbrev dktX3_readUnit_1 : List UInt8 := dkwX3_readUnit_1 ++ dktX3_readUnit_2
def dkwX3_readUnit_0 : List UInt8 := [42, 180, 0, 169, 5, 160, 0, 15, 42, 180, 0, 172, 8, 161, 0, 7, 4, 167, 0, 4, 3, 60, 27]
abbrev dktX3_readUnit_0 : List UInt8 := dkwX3_readUnit_0 ++ dktX3_readUnit_1
theorem dksX3_readUnit_0 : cX3_readUnit.data.toList.drop 0 = dktX3_readUnit_0 := by decide +kernel
theorem dksX3_readUnit_1 : cX3_readUnit.data.toList.drop 23 = dktX3_readUnit_1 := dk_seg dksX3_readUnit_0 23 rfl rfl
theorem dksX3_readUnit_2 : cX3_readUnit.data.toList.drop 46 = dktX3_readUnit_2 := dk_seg dksX3_readUnit_1 23 rfl rfl
theorem dksX3_readUnit_3 : cX3_readUnit.data.toList.drop 70 = dktX3_readUnit_3 := dk_seg dksX3_readUnit_2 24 rfl rfl
theorem dX3_readUnit_0 : decode cX3_readUnit 0 = .ok (.aload_n 0, 1) := dk_42 (dk_at dksX3_readUnit_0 0 rfl rfl)
theorem dX3_readUnit_1 : decode cX3_readUnit 1 = .ok (.getfield 169, 3) := dk_180 0 169 (dk_at dksX3_readUnit_0 1 rfl rfl)
theorem dX3_readUnit_4 : decode cX3_readUnit 4 = .ok (.iconst 2, 1) := dk_5 (dk_at dksX3_readUnit_0 4 rfl rfl)
theorem dX3_readUnit_5 : decode cX3_readUnit 5 = .ok (.if_icmp .ne 15, 3) := dk_160 0 15 (dk_at dksX3_readUnit_0 5 rfl rfl)
theorem dX3_readUnit_8 : decode cX3_readUnit 8 = .ok (.aload_n 0, 1) := dk_42 (dk_at dksX3_readUnit_0 8 rfl rfl)
theorem dX3_readUnit_9 : decode cX3_readUnit 9 = .ok (.getfield 172, 3) := dk_180 0 172 (dk_at dksX3_readUnit_0 9 rfl rfl)
theorem dX3_readUnit_12 : decode cX3_readUnit 12 = .ok (.iconst 5, 1) := dk_8 (dk_at dksX3_readUnit_0 12 rfl rfl)
theorem dX3_readUnit_13 : decode cX3_readUnit 13 = .ok (.if_icmp .lt 7, 3) := dk_161 0 7 (dk_at dksX3_readUnit_0 13 rfl rfl)
theorem dX3_readUnit_16 : decode cX3_readUnit 16 = .ok (.iconst 1, 1) := dk_4 (dk_at dksX3_readUnit_0 16 rfl rfl)
theorem dX3_readUnit_17 : decode cX3_readUnit 17 = .ok (.goto 4, 3) := dk_167 0 4 (dk_at dksX3_readUnit_0 17 rfl rfl)
theorem dX3_readUnit_20 : decode cX3_readUnit 20 = .ok (.iconst 0, 1) := dk_3 (dk_at dksX3_readUnit_0 20 rfl rfl)
theorem dX3_readUnit_21 : decode cX3_readUnit 21 = .ok (.istore_n 1, 1) := dk_60 (dk_at dksX3_readUnit_0 21 rfl rfl)
theorem dX3_readUnit_22 : decode cX3_readUnit 22 = .ok (.iload_n 1, 1) := dk_27 (dk_at dksX3_readUnit_0 22 rfl rfl)
theorem dX3_readUnit_23 : decode cX3_readUnit 23 = .ok (.ifCond .ne 17, 3) := dk_154 0 17 (dk_at dksX3_readUnit_1 0 rfl rfl)
theorem dX3_readUnit_26 : decode cX3_readUnit 26 = .ok (.aload_n 0, 1) := dk_42 (dk_at dksX3_readUnit_1 3 rfl rfl)
theorem dX3_readUnit_27 : decode cX3_readUnit 27 = .ok (.getfield 169, 3) := dk_180 0 169 (dk_at dksX3_readUnit_1 4 rfl rfl)
theorem dX3_readUnit_30 : decode cX3_readUnit 30 = .ok (.iconst 3, 1) := dk_6 (dk_at dksX3_readUnit_1 7 rfl rfl)
theorem dX3_readUnit_31 : decode cX3_readUnit 31 = .ok (.if_icmp .eq 9, 3) := dk_159 0 9 (dk_at dksX3_readUnit_1 8 rfl rfl)
theorem dX3_readUnit_34 : decode cX3_readUnit 34 = .ok (.aload_n 0, 1) := dk_42 (dk_at dksX3_readUnit_1 11 rfl rfl)
theorem dX3_readUnit_35 : decode cX3_readUnit 35 = .ok (.iconst 1, 1) := dk_4 (dk_at dksX3_readUnit_1 12 rfl rfl)
theorem dX3_readUnit_36 : decode cX3_readUnit 36 = .ok (.invokevirtual 197, 3) := dk_182 0 197 (dk_at dksX3_readUnit_1 13 rfl rfl)
theorem dX3_readUnit_39 : decode cX3_readUnit 39 = .ok (.ireturn, 1) := dk_172 (dk_at dksX3_readUnit_1 16 rfl rfl)
theorem dX3_readUnit_40 : decode cX3_readUnit 40 = .ok (.aload_n 0, 1) := dk_42 (dk_at dksX3_readUnit_1 17 rfl rfl)
theorem dX3_readUnit_41 : decode cX3_readUnit 41 = .ok (.iload_n 1, 1) := dk_27 (dk_at dksX3_readUnit_1 18 rfl rfl)
theorem dX3_readUnit_42 : decode cX3_readUnit 42 = .ok (.ifCond .eq 7, 3) := dk_153 0 7 (dk_at dksX3_readUnit_1 19 rfl rfl)
theorem dX3_readUnit_45 : decode cX3_readUnit 45 = .ok (.iconst 1, 1) := dk_4 (dk_at dksX3_readUnit_1 22 rfl rfl)
theorem dX3_readUnit_46 : decode cX3_readUnit 46 = .ok (.goto 4, 3) := dk_167 0 4 (dk_at dksX3_readUnit_2 0 rfl rfl)
theorem dX3_readUnit_49 : decode cX3_readUnit 49 = .ok (.iconst 0, 1) := dk_3 (dk_at dksX3_readUnit_2 3 rfl rfl)
theorem dX3_readUnit_50 : decode cX3_readUnit 50 = .ok (.iload_n 1, 1) := dk_27 (dk_at dksX3_readUnit_2 4 rfl rfl)
theorem dX3_readUnit_51 : decode cX3_readUnit 51 = .ok (.ifCond .eq 12, 3) := dk_153 0 12 (dk_at dksX3_readUnit_2 5 rfl rfl)
theorem dX3_readUnit_54 : decode cX3_readUnit 54 = .ok (.aload_n 0, 1) := dk_42 (dk_at dksX3_readUnit_2 8 rfl rfl)
theorem dX3_readUnit_55 : decode cX3_readUnit 55 = .ok (.getfield 172, 3) := dk_180 0 172 (dk_at dksX3_readUnit_2 9 rfl rfl)
theorem dX3_readUnit_58 : decode cX3_readUnit 58 = .ok (.iconst 5, 1) := dk_8 (dk_at dksX3_readUnit_2 12 rfl rfl)
theorem dX3_readUnit_59 : decode cX3_readUnit 59 = .ok (.isub, 1) := dk_100 (dk_at dksX3_readUnit_2 13 rfl rfl)
theorem dX3_readUnit_60 : decode cX3_readUnit 60 = .ok (.goto 7, 3) := dk_167 0 7 (dk_at dksX3_readUnit_2 14 rfl rfl)
theorem dX3_readUnit_63 : decode cX3_readUnit 63 = .ok (.aload_n 0, 1) := dk_42 (dk_at dksX3_readUnit_2 17 rfl rfl)
theorem dX3_readUnit_64 : decode cX3_readUnit 64 = .ok (.getfield 172, 3) := dk_180 0 172 (dk_at dksX3_readUnit_2 18 rfl rfl)
theorem dX3_readUnit_67 : decode cX3_readUnit 67 = .ok (.invokevirtual 200, 3) := dk_182 0 200 (dk_at dksX3_readUnit_2 21 rfl rfl)
theorem dX3_readUnit_70 : decode cX3_readUnit 70 = .ok (.aload_n 0, 1) := dk_42 (dk_at dksX3_readUnit_3 0 rfl rfl)
theorem dX3_readUnit_71 : decode cX3_readUnit 71 = .ok (.invokevirtual 203, 3) := dk_182 0 203 (dk_at dksX3_readUnit_3 1 rfl rfl)
theorem dX3_readUnit_74 : decode cX3_readUnit 74 = .ok (.iconst 0, 1) := dk_3 (dk_at dksX3_readUnit_3 4 rfl rfl)
theorem dX3_readUnit_75 : decode cX3_readUnit 75 = .ok (.ireturn, 1) := dk_172 (dk_at dksX3_readUnit_3 5 rfl rfl)
abbrev cX3_emits : ByteArray := prog_14_method_37_code
def yX3_emits : MethodName := ⟨RX3, "emits", "(II)V"⟩
def dkwX3_emits_1 : List UInt8 := [180, 0, 194, 96, 28, 79, 42, 42, 180, 0, 194, 4, 96, 181, 0, 194, 177]
abbrev dktX3_emits_1 : List UInt8 := dkwX3_emits_1 ++ []
def dkwX3_emits_0 : List UInt8 := [42, 180, 0, 53, 17, 1, 144, 42, 180, 0, 194, 96, 27, 79, 42, 180, 0, 56, 17, 1, 144, 42]
abbrev dktX3_emits_0 : List UInt8 := dkwX3_emits_0 ++ dktX3_emits_1
theorem dksX3_emits_0 : cX3_emits.data.toList.drop 0 = dktX3_emits_0 := by decide +kernel
theorem dksX3_emits_1 : cX3_emits.data.toList.drop 22 = dktX3_emits_1 := dk_seg dksX3_emits_0 22 rfl rfl
theorem dX3_emits_0 : decode cX3_emits 0 = .ok (.aload_n 0, 1) := dk_42 (dk_at dksX3_emits_0 0 rfl rfl)
theorem dX3_emits_1 : decode cX3_emits 1 = .ok (.getfield 53, 3) := dk_180 0 53 (dk_at dksX3_emits_0 1 rfl rfl)
theorem dX3_emits_4 : decode cX3_emits 4 = .ok (.sipush 400, 3) := dk_17 1 144 (dk_at dksX3_emits_0 4 rfl rfl)
theorem dX3_emits_7 : decode cX3_emits 7 = .ok (.aload_n 0, 1) := dk_42 (dk_at dksX3_emits_0 7 rfl rfl)
theorem dX3_emits_8 : decode cX3_emits 8 = .ok (.getfield 194, 3) := dk_180 0 194 (dk_at dksX3_emits_0 8 rfl rfl)
theorem dX3_emits_11 : decode cX3_emits 11 = .ok (.iadd, 1) := dk_96 (dk_at dksX3_emits_0 11 rfl rfl)
theorem dX3_emits_12 : decode cX3_emits 12 = .ok (.iload_n 1, 1) := dk_27 (dk_at dksX3_emits_0 12 rfl rfl)
theorem dX3_emits_13 : decode cX3_emits 13 = .ok (.iastore, 1) := dk_79 (dk_at dksX3_emits_0 13 rfl rfl)
theorem dX3_emits_14 : decode cX3_emits 14 = .ok (.aload_n 0, 1) := dk_42 (dk_at dksX3_emits_0 14 rfl rfl)
theorem dX3_emits_15 : decode cX3_emits 15 = .ok (.getfield 56, 3) := dk_180 0 56 (dk_at dksX3_emits_0 15 rfl rfl)
theorem dX3_emits_18 : decode cX3_emits 18 = .ok (.sipush 400, 3) := dk_17 1 144 (dk_at dksX3_emits_0 18 rfl rfl)
theorem dX3_emits_21 : decode cX3_emits 21 = .ok (.aload_n 0, 1) := dk_42 (dk_at dksX3_emits_0 21 rfl rfl)
theorem dX3_emits_22 : decode cX3_emits 22 = .ok (.getfield 194, 3) := dk_180 0 194 (dk_at dksX3_emits_1 0 rfl rfl)
theorem dX3_emits_25 : decode cX3_emits 25 = .ok (.iadd, 1) := dk_96 (dk_at dksX3_emits_1 3 rfl rfl)
theorem dX3_emits_26 : decode cX3_emits 26 = .ok (.iload_n 2, 1) := dk_28 (dk_at dksX3_emits_1 4 rfl rfl)
theorem dX3_emits_27 : decode cX3_emits 27 = .ok (.iastore, 1) := dk_79 (dk_at dksX3_emits_1 5 rfl rfl)
theorem dX3_emits_28 : decode cX3_emits 28 = .ok (.aload_n 0, 1) := dk_42 (dk_at dksX3_emits_1 6 rfl rfl)
theorem dX3_emits_29 : decode cX3_emits 29 = .ok (.aload_n 0, 1) := dk_42 (dk_at dksX3_emits_1 7 rfl rfl)
theorem dX3_emits_30 : decode cX3_emits 30 = .ok (.getfield 194, 3) := dk_180 0 194 (dk_at dksX3_emits_1 8 rfl rfl)
theorem dX3_emits_33 : decode cX3_emits 33 = .ok (.iconst 1, 1) := dk_4 (dk_at dksX3_emits_1 11 rfl rfl)
theorem dX3_emits_34 : decode cX3_emits 34 = .ok (.iadd, 1) := dk_96 (dk_at dksX3_emits_1 12 rfl rfl)
theorem dX3_emits_35 : decode cX3_emits 35 = .ok (.putfield 194, 3) := dk_181 0 194 (dk_at dksX3_emits_1 13 rfl rfl)
theorem dX3_emits_38 : decode cX3_emits 38 = .ok (.return_, 1) := dk_177 (dk_at dksX3_emits_1 16 rfl rfl)
abbrev cX3_isSign : ByteArray := prog_14_method_36_code
def yX3_isSign : MethodName := ⟨RX3, "isSign", "(I)Z"⟩
def dkwX3_isSign_0 : List UInt8 := [42, 180, 0, 169, 7, 160, 0, 15, 42, 180, 0, 172, 27, 160, 0, 7, 4, 167, 0, 4, 3, 172]
abbrev dktX3_isSign_0 : List UInt8 := dkwX3_isSign_0 ++ []
theorem dksX3_isSign_0 : cX3_isSign.data.toList.drop 0 = dktX3_isSign_0 := by decide +kernel
theorem dX3_isSign_0 : decode cX3_isSign 0 = .ok (.aload_n 0, 1) := dk_42 (dk_at dksX3_isSign_0 0 rfl rfl)
theorem dX3_isSign_1 : decode cX3_isSign 1 = .ok (.getfield 169, 3) := dk_180 0 169 (dk_at dksX3_isSign_0 1 rfl rfl)
theorem dX3_isSign_4 : decode cX3_isSign 4 = .ok (.iconst 4, 1) := dk_7 (dk_at dksX3_isSign_0 4 rfl rfl)
theorem dX3_isSign_5 : decode cX3_isSign 5 = .ok (.if_icmp .ne 15, 3) := dk_160 0 15 (dk_at dksX3_isSign_0 5 rfl rfl)
theorem dX3_isSign_8 : decode cX3_isSign 8 = .ok (.aload_n 0, 1) := dk_42 (dk_at dksX3_isSign_0 8 rfl rfl)
theorem dX3_isSign_9 : decode cX3_isSign 9 = .ok (.getfield 172, 3) := dk_180 0 172 (dk_at dksX3_isSign_0 9 rfl rfl)
theorem dX3_isSign_12 : decode cX3_isSign 12 = .ok (.iload_n 1, 1) := dk_27 (dk_at dksX3_isSign_0 12 rfl rfl)
theorem dX3_isSign_13 : decode cX3_isSign 13 = .ok (.if_icmp .ne 7, 3) := dk_160 0 7 (dk_at dksX3_isSign_0 13 rfl rfl)
theorem dX3_isSign_16 : decode cX3_isSign 16 = .ok (.iconst 1, 1) := dk_4 (dk_at dksX3_isSign_0 16 rfl rfl)
theorem dX3_isSign_17 : decode cX3_isSign 17 = .ok (.goto 4, 3) := dk_167 0 4 (dk_at dksX3_isSign_0 17 rfl rfl)
theorem dX3_isSign_20 : decode cX3_isSign 20 = .ok (.iconst 0, 1) := dk_3 (dk_at dksX3_isSign_0 20 rfl rfl)
theorem dX3_isSign_21 : decode cX3_isSign 21 = .ok (.ireturn, 1) := dk_172 (dk_at dksX3_isSign_0 21 rfl rfl)
abbrev cX3_readAny : ByteArray := prog_14_method_44_code
def yX3_readAny : MethodName := ⟨RX3, "readAny", "()I"⟩
def dkwX3_readAny_10 : List UInt8 := [182, 0, 203, 167, 255, 26]
abbrev dktX3_readAny_10 : List UInt8 := dkwX3_readAny_10 ++ []
def dkwX3_readAny_9 : List UInt8 := [181, 0, 219, 27, 4, 100, 60, 42, 42, 180, 0, 222, 4, 100, 181, 0, 222, 42, 16, 9, 182, 0, 234, 42]
abbrev dktX3_readAny_9 : List UInt8 := dkwX3_readAny_9 ++ dktX3_readAny_10
def dkwX3_readAny_8 : List UInt8 := [3, 172, 42, 16, 41, 182, 0, 210, 154, 0, 9, 42, 4, 182, 0, 197, 172, 42, 42, 180, 0, 219, 4, 100]
abbrev dktX3_readAny_8 : List UInt8 := dkwX3_readAny_8 ++ dktX3_readAny_9
def dkwX3_readAny_7 : List UInt8 := [182, 0, 203, 4, 61, 167, 255, 96, 42, 16, 10, 182, 0, 234, 42, 16, 11, 182, 0, 234, 27, 154, 0, 5]
abbrev dktX3_readAny_7 : List UInt8 := dkwX3_readAny_7 ++ dktX3_readAny_8
def dkwX3_readAny_6 : List UInt8 := [153, 0, 30, 42, 16, 10, 182, 0, 234, 42, 16, 11, 182, 0, 234, 42, 16, 11, 182, 0, 228, 42]
abbrev dktX3_readAny_6 : List UInt8 := dkwX3_readAny_6 ++ dktX3_readAny_7
def dkwX3_readAny_5 : List UInt8 := [182, 0, 234, 42, 16, 10, 182, 0, 228, 42, 182, 0, 203, 4, 61, 167, 255, 131, 42, 5, 182, 0, 225]
abbrev dktX3_readAny_5 : List UInt8 := dkwX3_readAny_5 ++ dktX3_readAny_6
def dkwX3_readAny_4 : List UInt8 := [172, 42, 16, 9, 182, 0, 234, 3, 61, 167, 255, 160, 42, 6, 182, 0, 225, 153, 0, 24, 42, 16, 10]
abbrev dktX3_readAny_4 : List UInt8 := dkwX3_readAny_4 ++ dktX3_readAny_5
def dkwX3_readAny_3 : List UInt8 := [167, 0, 5, 16, 12, 182, 0, 228, 42, 182, 0, 203, 167, 255, 181, 42, 182, 0, 231, 2, 160, 0, 5, 2]
abbrev dktX3_readAny_3 : List UInt8 := dkwX3_readAny_3 ++ dktX3_readAny_4
def dkwX3_readAny_2 : List UInt8 := [42, 180, 0, 222, 4, 96, 181, 0, 222, 29, 154, 0, 7, 27, 4, 96, 60, 42, 29, 153, 0, 8, 16, 9]
abbrev dktX3_readAny_2 : List UInt8 := dkwX3_readAny_2 ++ dktX3_readAny_3
def dkwX3_readAny_1 : List UInt8 := [16, 40, 182, 0, 210, 153, 0, 58, 42, 180, 0, 222, 16, 8, 160, 0, 9, 42, 6, 182, 0, 197, 172, 42]
abbrev dktX3_readAny_1 : List UInt8 := dkwX3_readAny_1 ++ dktX3_readAny_2
def dkwX3_readAny_0 : List UInt8 := [3, 60, 42, 3, 181, 0, 219, 4, 61, 28, 153, 0, 98, 42, 7, 182, 0, 225, 62, 29, 154, 0, 12, 42]
abbrev dktX3_readAny_0 : List UInt8 := dkwX3_readAny_0 ++ dktX3_readAny_1
theorem dksX3_readAny_0 : cX3_readAny.data.toList.drop 0 = dktX3_readAny_0 := by decide +kernel
theorem dksX3_readAny_1 : cX3_readAny.data.toList.drop 24 = dktX3_readAny_1 := dk_seg dksX3_readAny_0 24 rfl rfl
theorem dksX3_readAny_2 : cX3_readAny.data.toList.drop 48 = dktX3_readAny_2 := dk_seg dksX3_readAny_1 24 rfl rfl
theorem dksX3_readAny_3 : cX3_readAny.data.toList.drop 72 = dktX3_readAny_3 := dk_seg dksX3_readAny_2 24 rfl rfl
theorem dksX3_readAny_4 : cX3_readAny.data.toList.drop 96 = dktX3_readAny_4 := dk_seg dksX3_readAny_3 24 rfl rfl
theorem dksX3_readAny_5 : cX3_readAny.data.toList.drop 119 = dktX3_readAny_5 := dk_seg dksX3_readAny_4 23 rfl rfl
theorem dksX3_readAny_6 : cX3_readAny.data.toList.drop 142 = dktX3_readAny_6 := dk_seg dksX3_readAny_5 23 rfl rfl
theorem dksX3_readAny_7 : cX3_readAny.data.toList.drop 164 = dktX3_readAny_7 := dk_seg dksX3_readAny_6 22 rfl rfl
theorem dksX3_readAny_8 : cX3_readAny.data.toList.drop 188 = dktX3_readAny_8 := dk_seg dksX3_readAny_7 24 rfl rfl
theorem dksX3_readAny_9 : cX3_readAny.data.toList.drop 212 = dktX3_readAny_9 := dk_seg dksX3_readAny_8 24 rfl rfl
theorem dksX3_readAny_10 : cX3_readAny.data.toList.drop 236 = dktX3_readAny_10 := dk_seg dksX3_readAny_9 24 rfl rfl
theorem dX3_readAny_0 : decode cX3_readAny 0 = .ok (.iconst 0, 1) := dk_3 (dk_at dksX3_readAny_0 0 rfl rfl)
theorem dX3_readAny_1 : decode cX3_readAny 1 = .ok (.istore_n 1, 1) := dk_60 (dk_at dksX3_readAny_0 1 rfl rfl)
theorem dX3_readAny_2 : decode cX3_readAny 2 = .ok (.aload_n 0, 1) := dk_42 (dk_at dksX3_readAny_0 2 rfl rfl)
theorem dX3_readAny_3 : decode cX3_readAny 3 = .ok (.iconst 0, 1) := dk_3 (dk_at dksX3_readAny_0 3 rfl rfl)
theorem dX3_readAny_4 : decode cX3_readAny 4 = .ok (.putfield 219, 3) := dk_181 0 219 (dk_at dksX3_readAny_0 4 rfl rfl)
theorem dX3_readAny_7 : decode cX3_readAny 7 = .ok (.iconst 1, 1) := dk_4 (dk_at dksX3_readAny_0 7 rfl rfl)
theorem dX3_readAny_8 : decode cX3_readAny 8 = .ok (.istore_n 2, 1) := dk_61 (dk_at dksX3_readAny_0 8 rfl rfl)
theorem dX3_readAny_9 : decode cX3_readAny 9 = .ok (.iload_n 2, 1) := dk_28 (dk_at dksX3_readAny_0 9 rfl rfl)
theorem dX3_readAny_10 : decode cX3_readAny 10 = .ok (.ifCond .eq 98, 3) := dk_153 0 98 (dk_at dksX3_readAny_0 10 rfl rfl)
theorem dX3_readAny_13 : decode cX3_readAny 13 = .ok (.aload_n 0, 1) := dk_42 (dk_at dksX3_readAny_0 13 rfl rfl)
theorem dX3_readAny_14 : decode cX3_readAny 14 = .ok (.iconst 4, 1) := dk_7 (dk_at dksX3_readAny_0 14 rfl rfl)
theorem dX3_readAny_15 : decode cX3_readAny 15 = .ok (.invokevirtual 225, 3) := dk_182 0 225 (dk_at dksX3_readAny_0 15 rfl rfl)
theorem dX3_readAny_18 : decode cX3_readAny 18 = .ok (.istore_n 3, 1) := dk_62 (dk_at dksX3_readAny_0 18 rfl rfl)
theorem dX3_readAny_19 : decode cX3_readAny 19 = .ok (.iload_n 3, 1) := dk_29 (dk_at dksX3_readAny_0 19 rfl rfl)
theorem dX3_readAny_20 : decode cX3_readAny 20 = .ok (.ifCond .ne 12, 3) := dk_154 0 12 (dk_at dksX3_readAny_0 20 rfl rfl)
theorem dX3_readAny_23 : decode cX3_readAny 23 = .ok (.aload_n 0, 1) := dk_42 (dk_at dksX3_readAny_0 23 rfl rfl)
theorem dX3_readAny_24 : decode cX3_readAny 24 = .ok (.bipush 40, 2) := dk_16 40 (dk_at dksX3_readAny_1 0 rfl rfl)
theorem dX3_readAny_26 : decode cX3_readAny 26 = .ok (.invokevirtual 210, 3) := dk_182 0 210 (dk_at dksX3_readAny_1 2 rfl rfl)
theorem dX3_readAny_29 : decode cX3_readAny 29 = .ok (.ifCond .eq 58, 3) := dk_153 0 58 (dk_at dksX3_readAny_1 5 rfl rfl)
theorem dX3_readAny_32 : decode cX3_readAny 32 = .ok (.aload_n 0, 1) := dk_42 (dk_at dksX3_readAny_1 8 rfl rfl)
theorem dX3_readAny_33 : decode cX3_readAny 33 = .ok (.getfield 222, 3) := dk_180 0 222 (dk_at dksX3_readAny_1 9 rfl rfl)
theorem dX3_readAny_36 : decode cX3_readAny 36 = .ok (.bipush 8, 2) := dk_16 8 (dk_at dksX3_readAny_1 12 rfl rfl)
theorem dX3_readAny_38 : decode cX3_readAny 38 = .ok (.if_icmp .ne 9, 3) := dk_160 0 9 (dk_at dksX3_readAny_1 14 rfl rfl)
theorem dX3_readAny_41 : decode cX3_readAny 41 = .ok (.aload_n 0, 1) := dk_42 (dk_at dksX3_readAny_1 17 rfl rfl)
theorem dX3_readAny_42 : decode cX3_readAny 42 = .ok (.iconst 3, 1) := dk_6 (dk_at dksX3_readAny_1 18 rfl rfl)
theorem dX3_readAny_43 : decode cX3_readAny 43 = .ok (.invokevirtual 197, 3) := dk_182 0 197 (dk_at dksX3_readAny_1 19 rfl rfl)
theorem dX3_readAny_46 : decode cX3_readAny 46 = .ok (.ireturn, 1) := dk_172 (dk_at dksX3_readAny_1 22 rfl rfl)
theorem dX3_readAny_47 : decode cX3_readAny 47 = .ok (.aload_n 0, 1) := dk_42 (dk_at dksX3_readAny_1 23 rfl rfl)
theorem dX3_readAny_48 : decode cX3_readAny 48 = .ok (.aload_n 0, 1) := dk_42 (dk_at dksX3_readAny_2 0 rfl rfl)
theorem dX3_readAny_49 : decode cX3_readAny 49 = .ok (.getfield 222, 3) := dk_180 0 222 (dk_at dksX3_readAny_2 1 rfl rfl)
theorem dX3_readAny_52 : decode cX3_readAny 52 = .ok (.iconst 1, 1) := dk_4 (dk_at dksX3_readAny_2 4 rfl rfl)
theorem dX3_readAny_53 : decode cX3_readAny 53 = .ok (.iadd, 1) := dk_96 (dk_at dksX3_readAny_2 5 rfl rfl)
theorem dX3_readAny_54 : decode cX3_readAny 54 = .ok (.putfield 222, 3) := dk_181 0 222 (dk_at dksX3_readAny_2 6 rfl rfl)
theorem dX3_readAny_57 : decode cX3_readAny 57 = .ok (.iload_n 3, 1) := dk_29 (dk_at dksX3_readAny_2 9 rfl rfl)
theorem dX3_readAny_58 : decode cX3_readAny 58 = .ok (.ifCond .ne 7, 3) := dk_154 0 7 (dk_at dksX3_readAny_2 10 rfl rfl)
theorem dX3_readAny_61 : decode cX3_readAny 61 = .ok (.iload_n 1, 1) := dk_27 (dk_at dksX3_readAny_2 13 rfl rfl)
theorem dX3_readAny_62 : decode cX3_readAny 62 = .ok (.iconst 1, 1) := dk_4 (dk_at dksX3_readAny_2 14 rfl rfl)
theorem dX3_readAny_63 : decode cX3_readAny 63 = .ok (.iadd, 1) := dk_96 (dk_at dksX3_readAny_2 15 rfl rfl)
theorem dX3_readAny_64 : decode cX3_readAny 64 = .ok (.istore_n 1, 1) := dk_60 (dk_at dksX3_readAny_2 16 rfl rfl)
theorem dX3_readAny_65 : decode cX3_readAny 65 = .ok (.aload_n 0, 1) := dk_42 (dk_at dksX3_readAny_2 17 rfl rfl)
theorem dX3_readAny_66 : decode cX3_readAny 66 = .ok (.iload_n 3, 1) := dk_29 (dk_at dksX3_readAny_2 18 rfl rfl)
theorem dX3_readAny_67 : decode cX3_readAny 67 = .ok (.ifCond .eq 8, 3) := dk_153 0 8 (dk_at dksX3_readAny_2 19 rfl rfl)
theorem dX3_readAny_70 : decode cX3_readAny 70 = .ok (.bipush 9, 2) := dk_16 9 (dk_at dksX3_readAny_2 22 rfl rfl)
theorem dX3_readAny_72 : decode cX3_readAny 72 = .ok (.goto 5, 3) := dk_167 0 5 (dk_at dksX3_readAny_3 0 rfl rfl)
theorem dX3_readAny_75 : decode cX3_readAny 75 = .ok (.bipush 12, 2) := dk_16 12 (dk_at dksX3_readAny_3 3 rfl rfl)
theorem dX3_readAny_77 : decode cX3_readAny 77 = .ok (.invokevirtual 228, 3) := dk_182 0 228 (dk_at dksX3_readAny_3 5 rfl rfl)
theorem dX3_readAny_80 : decode cX3_readAny 80 = .ok (.aload_n 0, 1) := dk_42 (dk_at dksX3_readAny_3 8 rfl rfl)
theorem dX3_readAny_81 : decode cX3_readAny 81 = .ok (.invokevirtual 203, 3) := dk_182 0 203 (dk_at dksX3_readAny_3 9 rfl rfl)
theorem dX3_readAny_84 : decode cX3_readAny 84 = .ok (.goto (-75), 3) := dk_167 255 181 (dk_at dksX3_readAny_3 12 rfl rfl)
theorem dX3_readAny_87 : decode cX3_readAny 87 = .ok (.aload_n 0, 1) := dk_42 (dk_at dksX3_readAny_3 15 rfl rfl)
theorem dX3_readAny_88 : decode cX3_readAny 88 = .ok (.invokevirtual 231, 3) := dk_182 0 231 (dk_at dksX3_readAny_3 16 rfl rfl)
theorem dX3_readAny_91 : decode cX3_readAny 91 = .ok (.iconst (-1), 1) := dk_2 (dk_at dksX3_readAny_3 19 rfl rfl)
theorem dX3_readAny_92 : decode cX3_readAny 92 = .ok (.if_icmp .ne 5, 3) := dk_160 0 5 (dk_at dksX3_readAny_3 20 rfl rfl)
theorem dX3_readAny_95 : decode cX3_readAny 95 = .ok (.iconst (-1), 1) := dk_2 (dk_at dksX3_readAny_3 23 rfl rfl)
theorem dX3_readAny_96 : decode cX3_readAny 96 = .ok (.ireturn, 1) := dk_172 (dk_at dksX3_readAny_4 0 rfl rfl)
theorem dX3_readAny_97 : decode cX3_readAny 97 = .ok (.aload_n 0, 1) := dk_42 (dk_at dksX3_readAny_4 1 rfl rfl)
theorem dX3_readAny_98 : decode cX3_readAny 98 = .ok (.bipush 9, 2) := dk_16 9 (dk_at dksX3_readAny_4 2 rfl rfl)
theorem dX3_readAny_100 : decode cX3_readAny 100 = .ok (.invokevirtual 234, 3) := dk_182 0 234 (dk_at dksX3_readAny_4 4 rfl rfl)
theorem dX3_readAny_103 : decode cX3_readAny 103 = .ok (.iconst 0, 1) := dk_3 (dk_at dksX3_readAny_4 7 rfl rfl)
theorem dX3_readAny_104 : decode cX3_readAny 104 = .ok (.istore_n 2, 1) := dk_61 (dk_at dksX3_readAny_4 8 rfl rfl)
theorem dX3_readAny_105 : decode cX3_readAny 105 = .ok (.goto (-96), 3) := dk_167 255 160 (dk_at dksX3_readAny_4 9 rfl rfl)
theorem dX3_readAny_108 : decode cX3_readAny 108 = .ok (.aload_n 0, 1) := dk_42 (dk_at dksX3_readAny_4 12 rfl rfl)
theorem dX3_readAny_109 : decode cX3_readAny 109 = .ok (.iconst 3, 1) := dk_6 (dk_at dksX3_readAny_4 13 rfl rfl)
theorem dX3_readAny_110 : decode cX3_readAny 110 = .ok (.invokevirtual 225, 3) := dk_182 0 225 (dk_at dksX3_readAny_4 14 rfl rfl)
theorem dX3_readAny_113 : decode cX3_readAny 113 = .ok (.ifCond .eq 24, 3) := dk_153 0 24 (dk_at dksX3_readAny_4 17 rfl rfl)
theorem dX3_readAny_116 : decode cX3_readAny 116 = .ok (.aload_n 0, 1) := dk_42 (dk_at dksX3_readAny_4 20 rfl rfl)
theorem dX3_readAny_117 : decode cX3_readAny 117 = .ok (.bipush 10, 2) := dk_16 10 (dk_at dksX3_readAny_4 21 rfl rfl)
theorem dX3_readAny_119 : decode cX3_readAny 119 = .ok (.invokevirtual 234, 3) := dk_182 0 234 (dk_at dksX3_readAny_5 0 rfl rfl)
theorem dX3_readAny_122 : decode cX3_readAny 122 = .ok (.aload_n 0, 1) := dk_42 (dk_at dksX3_readAny_5 3 rfl rfl)
theorem dX3_readAny_123 : decode cX3_readAny 123 = .ok (.bipush 10, 2) := dk_16 10 (dk_at dksX3_readAny_5 4 rfl rfl)
theorem dX3_readAny_125 : decode cX3_readAny 125 = .ok (.invokevirtual 228, 3) := dk_182 0 228 (dk_at dksX3_readAny_5 6 rfl rfl)
theorem dX3_readAny_128 : decode cX3_readAny 128 = .ok (.aload_n 0, 1) := dk_42 (dk_at dksX3_readAny_5 9 rfl rfl)
theorem dX3_readAny_129 : decode cX3_readAny 129 = .ok (.invokevirtual 203, 3) := dk_182 0 203 (dk_at dksX3_readAny_5 10 rfl rfl)
theorem dX3_readAny_132 : decode cX3_readAny 132 = .ok (.iconst 1, 1) := dk_4 (dk_at dksX3_readAny_5 13 rfl rfl)
theorem dX3_readAny_133 : decode cX3_readAny 133 = .ok (.istore_n 2, 1) := dk_61 (dk_at dksX3_readAny_5 14 rfl rfl)
theorem dX3_readAny_134 : decode cX3_readAny 134 = .ok (.goto (-125), 3) := dk_167 255 131 (dk_at dksX3_readAny_5 15 rfl rfl)
theorem dX3_readAny_137 : decode cX3_readAny 137 = .ok (.aload_n 0, 1) := dk_42 (dk_at dksX3_readAny_5 18 rfl rfl)
theorem dX3_readAny_138 : decode cX3_readAny 138 = .ok (.iconst 2, 1) := dk_5 (dk_at dksX3_readAny_5 19 rfl rfl)
theorem dX3_readAny_139 : decode cX3_readAny 139 = .ok (.invokevirtual 225, 3) := dk_182 0 225 (dk_at dksX3_readAny_5 20 rfl rfl)
theorem dX3_readAny_142 : decode cX3_readAny 142 = .ok (.ifCond .eq 30, 3) := dk_153 0 30 (dk_at dksX3_readAny_6 0 rfl rfl)
theorem dX3_readAny_145 : decode cX3_readAny 145 = .ok (.aload_n 0, 1) := dk_42 (dk_at dksX3_readAny_6 3 rfl rfl)
theorem dX3_readAny_146 : decode cX3_readAny 146 = .ok (.bipush 10, 2) := dk_16 10 (dk_at dksX3_readAny_6 4 rfl rfl)
theorem dX3_readAny_148 : decode cX3_readAny 148 = .ok (.invokevirtual 234, 3) := dk_182 0 234 (dk_at dksX3_readAny_6 6 rfl rfl)
theorem dX3_readAny_151 : decode cX3_readAny 151 = .ok (.aload_n 0, 1) := dk_42 (dk_at dksX3_readAny_6 9 rfl rfl)
theorem dX3_readAny_152 : decode cX3_readAny 152 = .ok (.bipush 11, 2) := dk_16 11 (dk_at dksX3_readAny_6 10 rfl rfl)
theorem dX3_readAny_154 : decode cX3_readAny 154 = .ok (.invokevirtual 234, 3) := dk_182 0 234 (dk_at dksX3_readAny_6 12 rfl rfl)
theorem dX3_readAny_157 : decode cX3_readAny 157 = .ok (.aload_n 0, 1) := dk_42 (dk_at dksX3_readAny_6 15 rfl rfl)
theorem dX3_readAny_158 : decode cX3_readAny 158 = .ok (.bipush 11, 2) := dk_16 11 (dk_at dksX3_readAny_6 16 rfl rfl)
theorem dX3_readAny_160 : decode cX3_readAny 160 = .ok (.invokevirtual 228, 3) := dk_182 0 228 (dk_at dksX3_readAny_6 18 rfl rfl)
theorem dX3_readAny_163 : decode cX3_readAny 163 = .ok (.aload_n 0, 1) := dk_42 (dk_at dksX3_readAny_6 21 rfl rfl)
theorem dX3_readAny_164 : decode cX3_readAny 164 = .ok (.invokevirtual 203, 3) := dk_182 0 203 (dk_at dksX3_readAny_7 0 rfl rfl)
theorem dX3_readAny_167 : decode cX3_readAny 167 = .ok (.iconst 1, 1) := dk_4 (dk_at dksX3_readAny_7 3 rfl rfl)
theorem dX3_readAny_168 : decode cX3_readAny 168 = .ok (.istore_n 2, 1) := dk_61 (dk_at dksX3_readAny_7 4 rfl rfl)
theorem dX3_readAny_169 : decode cX3_readAny 169 = .ok (.goto (-160), 3) := dk_167 255 96 (dk_at dksX3_readAny_7 5 rfl rfl)
theorem dX3_readAny_172 : decode cX3_readAny 172 = .ok (.aload_n 0, 1) := dk_42 (dk_at dksX3_readAny_7 8 rfl rfl)
theorem dX3_readAny_173 : decode cX3_readAny 173 = .ok (.bipush 10, 2) := dk_16 10 (dk_at dksX3_readAny_7 9 rfl rfl)
theorem dX3_readAny_175 : decode cX3_readAny 175 = .ok (.invokevirtual 234, 3) := dk_182 0 234 (dk_at dksX3_readAny_7 11 rfl rfl)
theorem dX3_readAny_178 : decode cX3_readAny 178 = .ok (.aload_n 0, 1) := dk_42 (dk_at dksX3_readAny_7 14 rfl rfl)
theorem dX3_readAny_179 : decode cX3_readAny 179 = .ok (.bipush 11, 2) := dk_16 11 (dk_at dksX3_readAny_7 15 rfl rfl)
theorem dX3_readAny_181 : decode cX3_readAny 181 = .ok (.invokevirtual 234, 3) := dk_182 0 234 (dk_at dksX3_readAny_7 17 rfl rfl)
theorem dX3_readAny_184 : decode cX3_readAny 184 = .ok (.iload_n 1, 1) := dk_27 (dk_at dksX3_readAny_7 20 rfl rfl)
theorem dX3_readAny_185 : decode cX3_readAny 185 = .ok (.ifCond .ne 5, 3) := dk_154 0 5 (dk_at dksX3_readAny_7 21 rfl rfl)
theorem dX3_readAny_188 : decode cX3_readAny 188 = .ok (.iconst 0, 1) := dk_3 (dk_at dksX3_readAny_8 0 rfl rfl)
theorem dX3_readAny_189 : decode cX3_readAny 189 = .ok (.ireturn, 1) := dk_172 (dk_at dksX3_readAny_8 1 rfl rfl)
theorem dX3_readAny_190 : decode cX3_readAny 190 = .ok (.aload_n 0, 1) := dk_42 (dk_at dksX3_readAny_8 2 rfl rfl)
theorem dX3_readAny_191 : decode cX3_readAny 191 = .ok (.bipush 41, 2) := dk_16 41 (dk_at dksX3_readAny_8 3 rfl rfl)
theorem dX3_readAny_193 : decode cX3_readAny 193 = .ok (.invokevirtual 210, 3) := dk_182 0 210 (dk_at dksX3_readAny_8 5 rfl rfl)
theorem dX3_readAny_196 : decode cX3_readAny 196 = .ok (.ifCond .ne 9, 3) := dk_154 0 9 (dk_at dksX3_readAny_8 8 rfl rfl)
theorem dX3_readAny_199 : decode cX3_readAny 199 = .ok (.aload_n 0, 1) := dk_42 (dk_at dksX3_readAny_8 11 rfl rfl)
theorem dX3_readAny_200 : decode cX3_readAny 200 = .ok (.iconst 1, 1) := dk_4 (dk_at dksX3_readAny_8 12 rfl rfl)
theorem dX3_readAny_201 : decode cX3_readAny 201 = .ok (.invokevirtual 197, 3) := dk_182 0 197 (dk_at dksX3_readAny_8 13 rfl rfl)
theorem dX3_readAny_204 : decode cX3_readAny 204 = .ok (.ireturn, 1) := dk_172 (dk_at dksX3_readAny_8 16 rfl rfl)
theorem dX3_readAny_205 : decode cX3_readAny 205 = .ok (.aload_n 0, 1) := dk_42 (dk_at dksX3_readAny_8 17 rfl rfl)
theorem dX3_readAny_206 : decode cX3_readAny 206 = .ok (.aload_n 0, 1) := dk_42 (dk_at dksX3_readAny_8 18 rfl rfl)
theorem dX3_readAny_207 : decode cX3_readAny 207 = .ok (.getfield 219, 3) := dk_180 0 219 (dk_at dksX3_readAny_8 19 rfl rfl)
theorem dX3_readAny_210 : decode cX3_readAny 210 = .ok (.iconst 1, 1) := dk_4 (dk_at dksX3_readAny_8 22 rfl rfl)
theorem dX3_readAny_211 : decode cX3_readAny 211 = .ok (.isub, 1) := dk_100 (dk_at dksX3_readAny_8 23 rfl rfl)
theorem dX3_readAny_212 : decode cX3_readAny 212 = .ok (.putfield 219, 3) := dk_181 0 219 (dk_at dksX3_readAny_9 0 rfl rfl)
theorem dX3_readAny_215 : decode cX3_readAny 215 = .ok (.iload_n 1, 1) := dk_27 (dk_at dksX3_readAny_9 3 rfl rfl)
theorem dX3_readAny_216 : decode cX3_readAny 216 = .ok (.iconst 1, 1) := dk_4 (dk_at dksX3_readAny_9 4 rfl rfl)
theorem dX3_readAny_217 : decode cX3_readAny 217 = .ok (.isub, 1) := dk_100 (dk_at dksX3_readAny_9 5 rfl rfl)
theorem dX3_readAny_218 : decode cX3_readAny 218 = .ok (.istore_n 1, 1) := dk_60 (dk_at dksX3_readAny_9 6 rfl rfl)
theorem dX3_readAny_219 : decode cX3_readAny 219 = .ok (.aload_n 0, 1) := dk_42 (dk_at dksX3_readAny_9 7 rfl rfl)
theorem dX3_readAny_220 : decode cX3_readAny 220 = .ok (.aload_n 0, 1) := dk_42 (dk_at dksX3_readAny_9 8 rfl rfl)
theorem dX3_readAny_221 : decode cX3_readAny 221 = .ok (.getfield 222, 3) := dk_180 0 222 (dk_at dksX3_readAny_9 9 rfl rfl)
theorem dX3_readAny_224 : decode cX3_readAny 224 = .ok (.iconst 1, 1) := dk_4 (dk_at dksX3_readAny_9 12 rfl rfl)
theorem dX3_readAny_225 : decode cX3_readAny 225 = .ok (.isub, 1) := dk_100 (dk_at dksX3_readAny_9 13 rfl rfl)
theorem dX3_readAny_226 : decode cX3_readAny 226 = .ok (.putfield 222, 3) := dk_181 0 222 (dk_at dksX3_readAny_9 14 rfl rfl)
theorem dX3_readAny_229 : decode cX3_readAny 229 = .ok (.aload_n 0, 1) := dk_42 (dk_at dksX3_readAny_9 17 rfl rfl)
theorem dX3_readAny_230 : decode cX3_readAny 230 = .ok (.bipush 9, 2) := dk_16 9 (dk_at dksX3_readAny_9 18 rfl rfl)
theorem dX3_readAny_232 : decode cX3_readAny 232 = .ok (.invokevirtual 234, 3) := dk_182 0 234 (dk_at dksX3_readAny_9 20 rfl rfl)
theorem dX3_readAny_235 : decode cX3_readAny 235 = .ok (.aload_n 0, 1) := dk_42 (dk_at dksX3_readAny_9 23 rfl rfl)
theorem dX3_readAny_236 : decode cX3_readAny 236 = .ok (.invokevirtual 203, 3) := dk_182 0 203 (dk_at dksX3_readAny_10 0 rfl rfl)
theorem dX3_readAny_239 : decode cX3_readAny 239 = .ok (.goto (-230), 3) := dk_167 255 26 (dk_at dksX3_readAny_10 3 rfl rfl)
abbrev cX3_waits : ByteArray := prog_14_method_42_code
def yX3_waits : MethodName := ⟨RX3, "waits", "(I)V"⟩
def dkwX3_waits_0 : List UInt8 := [42, 180, 0, 59, 42, 180, 0, 219, 27, 79, 42, 42, 180, 0, 219, 4, 96, 181, 0, 219, 177]
abbrev dktX3_waits_0 : List UInt8 := dkwX3_waits_0 ++ []
theorem dksX3_waits_0 : cX3_waits.data.toList.drop 0 = dktX3_waits_0 := by decide +kernel
theorem dX3_waits_0 : decode cX3_waits 0 = .ok (.aload_n 0, 1) := dk_42 (dk_at dksX3_waits_0 0 rfl rfl)
theorem dX3_waits_1 : decode cX3_waits 1 = .ok (.getfield 59, 3) := dk_180 0 59 (dk_at dksX3_waits_0 1 rfl rfl)
theorem dX3_waits_4 : decode cX3_waits 4 = .ok (.aload_n 0, 1) := dk_42 (dk_at dksX3_waits_0 4 rfl rfl)
theorem dX3_waits_5 : decode cX3_waits 5 = .ok (.getfield 219, 3) := dk_180 0 219 (dk_at dksX3_waits_0 5 rfl rfl)
theorem dX3_waits_8 : decode cX3_waits 8 = .ok (.iload_n 1, 1) := dk_27 (dk_at dksX3_waits_0 8 rfl rfl)
theorem dX3_waits_9 : decode cX3_waits 9 = .ok (.iastore, 1) := dk_79 (dk_at dksX3_waits_0 9 rfl rfl)
theorem dX3_waits_10 : decode cX3_waits 10 = .ok (.aload_n 0, 1) := dk_42 (dk_at dksX3_waits_0 10 rfl rfl)
theorem dX3_waits_11 : decode cX3_waits 11 = .ok (.aload_n 0, 1) := dk_42 (dk_at dksX3_waits_0 11 rfl rfl)
theorem dX3_waits_12 : decode cX3_waits 12 = .ok (.getfield 219, 3) := dk_180 0 219 (dk_at dksX3_waits_0 12 rfl rfl)
theorem dX3_waits_15 : decode cX3_waits 15 = .ok (.iconst 1, 1) := dk_4 (dk_at dksX3_waits_0 15 rfl rfl)
theorem dX3_waits_16 : decode cX3_waits 16 = .ok (.iadd, 1) := dk_96 (dk_at dksX3_waits_0 16 rfl rfl)
theorem dX3_waits_17 : decode cX3_waits 17 = .ok (.putfield 219, 3) := dk_181 0 219 (dk_at dksX3_waits_0 17 rfl rfl)
theorem dX3_waits_20 : decode cX3_waits 20 = .ok (.return_, 1) := dk_177 (dk_at dksX3_waits_0 20 rfl rfl)
abbrev cX3_readCompared : ByteArray := prog_14_method_41_code
def yX3_readCompared : MethodName := ⟨RX3, "readCompared", "()I"⟩
def dkwX3_readCompared_4 : List UInt8 := [182, 0, 200, 3, 172]
abbrev dktX3_readCompared_4 : List UInt8 := dkwX3_readCompared_4 ++ []
def dkwX3_readCompared_3 : List UInt8 := [167, 0, 5, 16, 8, 60, 42, 182, 0, 203, 42, 182, 0, 216, 2, 160, 0, 5, 2, 172, 42, 27, 3]
abbrev dktX3_readCompared_3 : List UInt8 := dkwX3_readCompared_3 ++ dktX3_readCompared_4
def dkwX3_readCompared_2 : List UInt8 := [180, 0, 172, 16, 60, 160, 0, 8, 16, 6, 167, 0, 19, 42, 180, 0, 172, 16, 61, 160, 0, 8, 16, 7]
abbrev dktX3_readCompared_2 : List UInt8 := dkwX3_readCompared_2 ++ dktX3_readCompared_3
def dkwX3_readCompared_1 : List UInt8 := [182, 0, 210, 154, 0, 18, 42, 16, 62, 182, 0, 210, 154, 0, 9, 42, 4, 182, 0, 197, 172, 42]
abbrev dktX3_readCompared_1 : List UInt8 := dkwX3_readCompared_1 ++ dktX3_readCompared_2
def dkwX3_readCompared_0 : List UInt8 := [42, 182, 0, 216, 2, 160, 0, 5, 2, 172, 42, 16, 60, 182, 0, 210, 154, 0, 27, 42, 16, 61]
abbrev dktX3_readCompared_0 : List UInt8 := dkwX3_readCompared_0 ++ dktX3_readCompared_1
theorem dksX3_readCompared_0 : cX3_readCompared.data.toList.drop 0 = dktX3_readCompared_0 := by decide +kernel
theorem dksX3_readCompared_1 : cX3_readCompared.data.toList.drop 22 = dktX3_readCompared_1 := dk_seg dksX3_readCompared_0 22 rfl rfl
theorem dksX3_readCompared_2 : cX3_readCompared.data.toList.drop 44 = dktX3_readCompared_2 := dk_seg dksX3_readCompared_1 22 rfl rfl
theorem dksX3_readCompared_3 : cX3_readCompared.data.toList.drop 68 = dktX3_readCompared_3 := dk_seg dksX3_readCompared_2 24 rfl rfl
theorem dksX3_readCompared_4 : cX3_readCompared.data.toList.drop 91 = dktX3_readCompared_4 := dk_seg dksX3_readCompared_3 23 rfl rfl
theorem dX3_readCompared_0 : decode cX3_readCompared 0 = .ok (.aload_n 0, 1) := dk_42 (dk_at dksX3_readCompared_0 0 rfl rfl)
theorem dX3_readCompared_1 : decode cX3_readCompared 1 = .ok (.invokevirtual 216, 3) := dk_182 0 216 (dk_at dksX3_readCompared_0 1 rfl rfl)
theorem dX3_readCompared_4 : decode cX3_readCompared 4 = .ok (.iconst (-1), 1) := dk_2 (dk_at dksX3_readCompared_0 4 rfl rfl)
theorem dX3_readCompared_5 : decode cX3_readCompared 5 = .ok (.if_icmp .ne 5, 3) := dk_160 0 5 (dk_at dksX3_readCompared_0 5 rfl rfl)
theorem dX3_readCompared_8 : decode cX3_readCompared 8 = .ok (.iconst (-1), 1) := dk_2 (dk_at dksX3_readCompared_0 8 rfl rfl)
theorem dX3_readCompared_9 : decode cX3_readCompared 9 = .ok (.ireturn, 1) := dk_172 (dk_at dksX3_readCompared_0 9 rfl rfl)
theorem dX3_readCompared_10 : decode cX3_readCompared 10 = .ok (.aload_n 0, 1) := dk_42 (dk_at dksX3_readCompared_0 10 rfl rfl)
theorem dX3_readCompared_11 : decode cX3_readCompared 11 = .ok (.bipush 60, 2) := dk_16 60 (dk_at dksX3_readCompared_0 11 rfl rfl)
theorem dX3_readCompared_13 : decode cX3_readCompared 13 = .ok (.invokevirtual 210, 3) := dk_182 0 210 (dk_at dksX3_readCompared_0 13 rfl rfl)
theorem dX3_readCompared_16 : decode cX3_readCompared 16 = .ok (.ifCond .ne 27, 3) := dk_154 0 27 (dk_at dksX3_readCompared_0 16 rfl rfl)
theorem dX3_readCompared_19 : decode cX3_readCompared 19 = .ok (.aload_n 0, 1) := dk_42 (dk_at dksX3_readCompared_0 19 rfl rfl)
theorem dX3_readCompared_20 : decode cX3_readCompared 20 = .ok (.bipush 61, 2) := dk_16 61 (dk_at dksX3_readCompared_0 20 rfl rfl)
theorem dX3_readCompared_22 : decode cX3_readCompared 22 = .ok (.invokevirtual 210, 3) := dk_182 0 210 (dk_at dksX3_readCompared_1 0 rfl rfl)
theorem dX3_readCompared_25 : decode cX3_readCompared 25 = .ok (.ifCond .ne 18, 3) := dk_154 0 18 (dk_at dksX3_readCompared_1 3 rfl rfl)
theorem dX3_readCompared_28 : decode cX3_readCompared 28 = .ok (.aload_n 0, 1) := dk_42 (dk_at dksX3_readCompared_1 6 rfl rfl)
theorem dX3_readCompared_29 : decode cX3_readCompared 29 = .ok (.bipush 62, 2) := dk_16 62 (dk_at dksX3_readCompared_1 7 rfl rfl)
theorem dX3_readCompared_31 : decode cX3_readCompared 31 = .ok (.invokevirtual 210, 3) := dk_182 0 210 (dk_at dksX3_readCompared_1 9 rfl rfl)
theorem dX3_readCompared_34 : decode cX3_readCompared 34 = .ok (.ifCond .ne 9, 3) := dk_154 0 9 (dk_at dksX3_readCompared_1 12 rfl rfl)
theorem dX3_readCompared_37 : decode cX3_readCompared 37 = .ok (.aload_n 0, 1) := dk_42 (dk_at dksX3_readCompared_1 15 rfl rfl)
theorem dX3_readCompared_38 : decode cX3_readCompared 38 = .ok (.iconst 1, 1) := dk_4 (dk_at dksX3_readCompared_1 16 rfl rfl)
theorem dX3_readCompared_39 : decode cX3_readCompared 39 = .ok (.invokevirtual 197, 3) := dk_182 0 197 (dk_at dksX3_readCompared_1 17 rfl rfl)
theorem dX3_readCompared_42 : decode cX3_readCompared 42 = .ok (.ireturn, 1) := dk_172 (dk_at dksX3_readCompared_1 20 rfl rfl)
theorem dX3_readCompared_43 : decode cX3_readCompared 43 = .ok (.aload_n 0, 1) := dk_42 (dk_at dksX3_readCompared_1 21 rfl rfl)
theorem dX3_readCompared_44 : decode cX3_readCompared 44 = .ok (.getfield 172, 3) := dk_180 0 172 (dk_at dksX3_readCompared_2 0 rfl rfl)
theorem dX3_readCompared_47 : decode cX3_readCompared 47 = .ok (.bipush 60, 2) := dk_16 60 (dk_at dksX3_readCompared_2 3 rfl rfl)
theorem dX3_readCompared_49 : decode cX3_readCompared 49 = .ok (.if_icmp .ne 8, 3) := dk_160 0 8 (dk_at dksX3_readCompared_2 5 rfl rfl)
theorem dX3_readCompared_52 : decode cX3_readCompared 52 = .ok (.bipush 6, 2) := dk_16 6 (dk_at dksX3_readCompared_2 8 rfl rfl)
theorem dX3_readCompared_54 : decode cX3_readCompared 54 = .ok (.goto 19, 3) := dk_167 0 19 (dk_at dksX3_readCompared_2 10 rfl rfl)
theorem dX3_readCompared_57 : decode cX3_readCompared 57 = .ok (.aload_n 0, 1) := dk_42 (dk_at dksX3_readCompared_2 13 rfl rfl)
theorem dX3_readCompared_58 : decode cX3_readCompared 58 = .ok (.getfield 172, 3) := dk_180 0 172 (dk_at dksX3_readCompared_2 14 rfl rfl)
theorem dX3_readCompared_61 : decode cX3_readCompared 61 = .ok (.bipush 61, 2) := dk_16 61 (dk_at dksX3_readCompared_2 17 rfl rfl)
theorem dX3_readCompared_63 : decode cX3_readCompared 63 = .ok (.if_icmp .ne 8, 3) := dk_160 0 8 (dk_at dksX3_readCompared_2 19 rfl rfl)
theorem dX3_readCompared_66 : decode cX3_readCompared 66 = .ok (.bipush 7, 2) := dk_16 7 (dk_at dksX3_readCompared_2 22 rfl rfl)
theorem dX3_readCompared_68 : decode cX3_readCompared 68 = .ok (.goto 5, 3) := dk_167 0 5 (dk_at dksX3_readCompared_3 0 rfl rfl)
theorem dX3_readCompared_71 : decode cX3_readCompared 71 = .ok (.bipush 8, 2) := dk_16 8 (dk_at dksX3_readCompared_3 3 rfl rfl)
theorem dX3_readCompared_73 : decode cX3_readCompared 73 = .ok (.istore_n 1, 1) := dk_60 (dk_at dksX3_readCompared_3 5 rfl rfl)
theorem dX3_readCompared_74 : decode cX3_readCompared 74 = .ok (.aload_n 0, 1) := dk_42 (dk_at dksX3_readCompared_3 6 rfl rfl)
theorem dX3_readCompared_75 : decode cX3_readCompared 75 = .ok (.invokevirtual 203, 3) := dk_182 0 203 (dk_at dksX3_readCompared_3 7 rfl rfl)
theorem dX3_readCompared_78 : decode cX3_readCompared 78 = .ok (.aload_n 0, 1) := dk_42 (dk_at dksX3_readCompared_3 10 rfl rfl)
theorem dX3_readCompared_79 : decode cX3_readCompared 79 = .ok (.invokevirtual 216, 3) := dk_182 0 216 (dk_at dksX3_readCompared_3 11 rfl rfl)
theorem dX3_readCompared_82 : decode cX3_readCompared 82 = .ok (.iconst (-1), 1) := dk_2 (dk_at dksX3_readCompared_3 14 rfl rfl)
theorem dX3_readCompared_83 : decode cX3_readCompared 83 = .ok (.if_icmp .ne 5, 3) := dk_160 0 5 (dk_at dksX3_readCompared_3 15 rfl rfl)
theorem dX3_readCompared_86 : decode cX3_readCompared 86 = .ok (.iconst (-1), 1) := dk_2 (dk_at dksX3_readCompared_3 18 rfl rfl)
theorem dX3_readCompared_87 : decode cX3_readCompared 87 = .ok (.ireturn, 1) := dk_172 (dk_at dksX3_readCompared_3 19 rfl rfl)
theorem dX3_readCompared_88 : decode cX3_readCompared 88 = .ok (.aload_n 0, 1) := dk_42 (dk_at dksX3_readCompared_3 20 rfl rfl)
theorem dX3_readCompared_89 : decode cX3_readCompared 89 = .ok (.iload_n 1, 1) := dk_27 (dk_at dksX3_readCompared_3 21 rfl rfl)
theorem dX3_readCompared_90 : decode cX3_readCompared 90 = .ok (.iconst 0, 1) := dk_3 (dk_at dksX3_readCompared_3 22 rfl rfl)
theorem dX3_readCompared_91 : decode cX3_readCompared 91 = .ok (.invokevirtual 200, 3) := dk_182 0 200 (dk_at dksX3_readCompared_4 0 rfl rfl)
theorem dX3_readCompared_94 : decode cX3_readCompared 94 = .ok (.iconst 0, 1) := dk_3 (dk_at dksX3_readCompared_4 3 rfl rfl)
theorem dX3_readCompared_95 : decode cX3_readCompared 95 = .ok (.ireturn, 1) := dk_172 (dk_at dksX3_readCompared_4 4 rfl rfl)
abbrev cX3_settles : ByteArray := prog_14_method_43_code
def yX3_settles : MethodName := ⟨RX3, "settles", "(I)V"⟩
def dkwX3_settles_2 : List UInt8 := [180, 0, 222, 4, 100, 181, 0, 222, 167, 255, 202, 177]
abbrev dktX3_settles_2 : List UInt8 := dkwX3_settles_2 ++ []
def dkwX3_settles_1 : List UInt8 := [180, 0, 219, 4, 100, 181, 0, 219, 42, 27, 3, 182, 0, 200, 27, 16, 9, 160, 255, 215, 42, 42]
abbrev dktX3_settles_1 : List UInt8 := dkwX3_settles_1 ++ dktX3_settles_2
def dkwX3_settles_0 : List UInt8 := [42, 180, 0, 219, 158, 0, 53, 42, 180, 0, 59, 42, 180, 0, 219, 4, 100, 46, 27, 160, 0, 38, 42, 42]
abbrev dktX3_settles_0 : List UInt8 := dkwX3_settles_0 ++ dktX3_settles_1
theorem dksX3_settles_0 : cX3_settles.data.toList.drop 0 = dktX3_settles_0 := by decide +kernel
theorem dksX3_settles_1 : cX3_settles.data.toList.drop 24 = dktX3_settles_1 := dk_seg dksX3_settles_0 24 rfl rfl
theorem dksX3_settles_2 : cX3_settles.data.toList.drop 46 = dktX3_settles_2 := dk_seg dksX3_settles_1 22 rfl rfl
theorem dX3_settles_0 : decode cX3_settles 0 = .ok (.aload_n 0, 1) := dk_42 (dk_at dksX3_settles_0 0 rfl rfl)
theorem dX3_settles_1 : decode cX3_settles 1 = .ok (.getfield 219, 3) := dk_180 0 219 (dk_at dksX3_settles_0 1 rfl rfl)
theorem dX3_settles_4 : decode cX3_settles 4 = .ok (.ifCond .le 53, 3) := dk_158 0 53 (dk_at dksX3_settles_0 4 rfl rfl)
theorem dX3_settles_7 : decode cX3_settles 7 = .ok (.aload_n 0, 1) := dk_42 (dk_at dksX3_settles_0 7 rfl rfl)
theorem dX3_settles_8 : decode cX3_settles 8 = .ok (.getfield 59, 3) := dk_180 0 59 (dk_at dksX3_settles_0 8 rfl rfl)
theorem dX3_settles_11 : decode cX3_settles 11 = .ok (.aload_n 0, 1) := dk_42 (dk_at dksX3_settles_0 11 rfl rfl)
theorem dX3_settles_12 : decode cX3_settles 12 = .ok (.getfield 219, 3) := dk_180 0 219 (dk_at dksX3_settles_0 12 rfl rfl)
theorem dX3_settles_15 : decode cX3_settles 15 = .ok (.iconst 1, 1) := dk_4 (dk_at dksX3_settles_0 15 rfl rfl)
theorem dX3_settles_16 : decode cX3_settles 16 = .ok (.isub, 1) := dk_100 (dk_at dksX3_settles_0 16 rfl rfl)
theorem dX3_settles_17 : decode cX3_settles 17 = .ok (.iaload, 1) := dk_46 (dk_at dksX3_settles_0 17 rfl rfl)
theorem dX3_settles_18 : decode cX3_settles 18 = .ok (.iload_n 1, 1) := dk_27 (dk_at dksX3_settles_0 18 rfl rfl)
theorem dX3_settles_19 : decode cX3_settles 19 = .ok (.if_icmp .ne 38, 3) := dk_160 0 38 (dk_at dksX3_settles_0 19 rfl rfl)
theorem dX3_settles_22 : decode cX3_settles 22 = .ok (.aload_n 0, 1) := dk_42 (dk_at dksX3_settles_0 22 rfl rfl)
theorem dX3_settles_23 : decode cX3_settles 23 = .ok (.aload_n 0, 1) := dk_42 (dk_at dksX3_settles_0 23 rfl rfl)
theorem dX3_settles_24 : decode cX3_settles 24 = .ok (.getfield 219, 3) := dk_180 0 219 (dk_at dksX3_settles_1 0 rfl rfl)
theorem dX3_settles_27 : decode cX3_settles 27 = .ok (.iconst 1, 1) := dk_4 (dk_at dksX3_settles_1 3 rfl rfl)
theorem dX3_settles_28 : decode cX3_settles 28 = .ok (.isub, 1) := dk_100 (dk_at dksX3_settles_1 4 rfl rfl)
theorem dX3_settles_29 : decode cX3_settles 29 = .ok (.putfield 219, 3) := dk_181 0 219 (dk_at dksX3_settles_1 5 rfl rfl)
theorem dX3_settles_32 : decode cX3_settles 32 = .ok (.aload_n 0, 1) := dk_42 (dk_at dksX3_settles_1 8 rfl rfl)
theorem dX3_settles_33 : decode cX3_settles 33 = .ok (.iload_n 1, 1) := dk_27 (dk_at dksX3_settles_1 9 rfl rfl)
theorem dX3_settles_34 : decode cX3_settles 34 = .ok (.iconst 0, 1) := dk_3 (dk_at dksX3_settles_1 10 rfl rfl)
theorem dX3_settles_35 : decode cX3_settles 35 = .ok (.invokevirtual 200, 3) := dk_182 0 200 (dk_at dksX3_settles_1 11 rfl rfl)
theorem dX3_settles_38 : decode cX3_settles 38 = .ok (.iload_n 1, 1) := dk_27 (dk_at dksX3_settles_1 14 rfl rfl)
theorem dX3_settles_39 : decode cX3_settles 39 = .ok (.bipush 9, 2) := dk_16 9 (dk_at dksX3_settles_1 15 rfl rfl)
theorem dX3_settles_41 : decode cX3_settles 41 = .ok (.if_icmp .ne (-41), 3) := dk_160 255 215 (dk_at dksX3_settles_1 17 rfl rfl)
theorem dX3_settles_44 : decode cX3_settles 44 = .ok (.aload_n 0, 1) := dk_42 (dk_at dksX3_settles_1 20 rfl rfl)
theorem dX3_settles_45 : decode cX3_settles 45 = .ok (.aload_n 0, 1) := dk_42 (dk_at dksX3_settles_1 21 rfl rfl)
theorem dX3_settles_46 : decode cX3_settles 46 = .ok (.getfield 222, 3) := dk_180 0 222 (dk_at dksX3_settles_2 0 rfl rfl)
theorem dX3_settles_49 : decode cX3_settles 49 = .ok (.iconst 1, 1) := dk_4 (dk_at dksX3_settles_2 3 rfl rfl)
theorem dX3_settles_50 : decode cX3_settles 50 = .ok (.isub, 1) := dk_100 (dk_at dksX3_settles_2 4 rfl rfl)
theorem dX3_settles_51 : decode cX3_settles 51 = .ok (.putfield 222, 3) := dk_181 0 222 (dk_at dksX3_settles_2 5 rfl rfl)
theorem dX3_settles_54 : decode cX3_settles 54 = .ok (.goto (-54), 3) := dk_167 255 202 (dk_at dksX3_settles_2 8 rfl rfl)
theorem dX3_settles_57 : decode cX3_settles 57 = .ok (.return_, 1) := dk_177 (dk_at dksX3_settles_2 11 rfl rfl)
abbrev cX3_fault : ByteArray := prog_14_method_47_code
def yX3_fault : MethodName := ⟨RX3, "fault", "(I)I"⟩
def dkwX3_fault_1 : List UInt8 := [180, 0, 62, 167, 0, 4, 2, 172]
abbrev dktX3_fault_1 : List UInt8 := dkwX3_fault_1 ++ []
def dkwX3_fault_0 : List UInt8 := [42, 3, 181, 0, 86, 27, 154, 0, 10, 42, 180, 0, 240, 167, 0, 16, 27, 4, 160, 0, 10, 42]
abbrev dktX3_fault_0 : List UInt8 := dkwX3_fault_0 ++ dktX3_fault_1
theorem dksX3_fault_0 : cX3_fault.data.toList.drop 0 = dktX3_fault_0 := by decide +kernel
theorem dksX3_fault_1 : cX3_fault.data.toList.drop 22 = dktX3_fault_1 := dk_seg dksX3_fault_0 22 rfl rfl
theorem dX3_fault_0 : decode cX3_fault 0 = .ok (.aload_n 0, 1) := dk_42 (dk_at dksX3_fault_0 0 rfl rfl)
theorem dX3_fault_1 : decode cX3_fault 1 = .ok (.iconst 0, 1) := dk_3 (dk_at dksX3_fault_0 1 rfl rfl)
theorem dX3_fault_2 : decode cX3_fault 2 = .ok (.putfield 86, 3) := dk_181 0 86 (dk_at dksX3_fault_0 2 rfl rfl)
theorem dX3_fault_5 : decode cX3_fault 5 = .ok (.iload_n 1, 1) := dk_27 (dk_at dksX3_fault_0 5 rfl rfl)
theorem dX3_fault_6 : decode cX3_fault 6 = .ok (.ifCond .ne 10, 3) := dk_154 0 10 (dk_at dksX3_fault_0 6 rfl rfl)
theorem dX3_fault_9 : decode cX3_fault 9 = .ok (.aload_n 0, 1) := dk_42 (dk_at dksX3_fault_0 9 rfl rfl)
theorem dX3_fault_10 : decode cX3_fault 10 = .ok (.getfield 240, 3) := dk_180 0 240 (dk_at dksX3_fault_0 10 rfl rfl)
theorem dX3_fault_13 : decode cX3_fault 13 = .ok (.goto 16, 3) := dk_167 0 16 (dk_at dksX3_fault_0 13 rfl rfl)
theorem dX3_fault_16 : decode cX3_fault 16 = .ok (.iload_n 1, 1) := dk_27 (dk_at dksX3_fault_0 16 rfl rfl)
theorem dX3_fault_17 : decode cX3_fault 17 = .ok (.iconst 1, 1) := dk_4 (dk_at dksX3_fault_0 17 rfl rfl)
theorem dX3_fault_18 : decode cX3_fault 18 = .ok (.if_icmp .ne 10, 3) := dk_160 0 10 (dk_at dksX3_fault_0 18 rfl rfl)
theorem dX3_fault_21 : decode cX3_fault 21 = .ok (.aload_n 0, 1) := dk_42 (dk_at dksX3_fault_0 21 rfl rfl)
theorem dX3_fault_22 : decode cX3_fault 22 = .ok (.getfield 62, 3) := dk_180 0 62 (dk_at dksX3_fault_1 0 rfl rfl)
theorem dX3_fault_25 : decode cX3_fault 25 = .ok (.goto 4, 3) := dk_167 0 4 (dk_at dksX3_fault_1 3 rfl rfl)
theorem dX3_fault_28 : decode cX3_fault 28 = .ok (.iconst (-1), 1) := dk_2 (dk_at dksX3_fault_1 6 rfl rfl)
theorem dX3_fault_29 : decode cX3_fault 29 = .ok (.ireturn, 1) := dk_172 (dk_at dksX3_fault_1 7 rfl rfl)
abbrev cX3_days : ByteArray := prog_14_method_59_code
def yX3_days : MethodName := ⟨RX3, "days", "(I)I"⟩
def dkwX3_days_2 : List UInt8 := [28, 4, 96, 61, 132, 3, 1, 167, 255, 237, 42, 3, 181, 0, 89, 28, 172]
abbrev dktX3_days_2 : List UInt8 := dkwX3_days_2 ++ []
def dkwX3_days_1 : List UInt8 := [17, 39, 15, 164, 0, 5, 2, 172, 3, 61, 3, 62, 29, 27, 162, 0, 20, 42, 182, 1, 28, 153, 0, 7]
abbrev dktX3_days_1 : List UInt8 := dkwX3_days_1 ++ dktX3_days_2
def dkwX3_days_0 : List UInt8 := [42, 3, 181, 0, 86, 42, 27, 4, 16, 100, 182, 0, 107, 153, 0, 15, 42, 180, 0, 123, 27, 96]
abbrev dktX3_days_0 : List UInt8 := dkwX3_days_0 ++ dktX3_days_1
theorem dksX3_days_0 : cX3_days.data.toList.drop 0 = dktX3_days_0 := by decide +kernel
theorem dksX3_days_1 : cX3_days.data.toList.drop 22 = dktX3_days_1 := dk_seg dksX3_days_0 22 rfl rfl
theorem dksX3_days_2 : cX3_days.data.toList.drop 46 = dktX3_days_2 := dk_seg dksX3_days_1 24 rfl rfl
theorem dX3_days_0 : decode cX3_days 0 = .ok (.aload_n 0, 1) := dk_42 (dk_at dksX3_days_0 0 rfl rfl)
theorem dX3_days_1 : decode cX3_days 1 = .ok (.iconst 0, 1) := dk_3 (dk_at dksX3_days_0 1 rfl rfl)
theorem dX3_days_2 : decode cX3_days 2 = .ok (.putfield 86, 3) := dk_181 0 86 (dk_at dksX3_days_0 2 rfl rfl)
theorem dX3_days_5 : decode cX3_days 5 = .ok (.aload_n 0, 1) := dk_42 (dk_at dksX3_days_0 5 rfl rfl)
theorem dX3_days_6 : decode cX3_days 6 = .ok (.iload_n 1, 1) := dk_27 (dk_at dksX3_days_0 6 rfl rfl)
theorem dX3_days_7 : decode cX3_days 7 = .ok (.iconst 1, 1) := dk_4 (dk_at dksX3_days_0 7 rfl rfl)
theorem dX3_days_8 : decode cX3_days 8 = .ok (.bipush 100, 2) := dk_16 100 (dk_at dksX3_days_0 8 rfl rfl)
theorem dX3_days_10 : decode cX3_days 10 = .ok (.invokevirtual 107, 3) := dk_182 0 107 (dk_at dksX3_days_0 10 rfl rfl)
theorem dX3_days_13 : decode cX3_days 13 = .ok (.ifCond .eq 15, 3) := dk_153 0 15 (dk_at dksX3_days_0 13 rfl rfl)
theorem dX3_days_16 : decode cX3_days 16 = .ok (.aload_n 0, 1) := dk_42 (dk_at dksX3_days_0 16 rfl rfl)
theorem dX3_days_17 : decode cX3_days 17 = .ok (.getfield 123, 3) := dk_180 0 123 (dk_at dksX3_days_0 17 rfl rfl)
theorem dX3_days_20 : decode cX3_days 20 = .ok (.iload_n 1, 1) := dk_27 (dk_at dksX3_days_0 20 rfl rfl)
theorem dX3_days_21 : decode cX3_days 21 = .ok (.iadd, 1) := dk_96 (dk_at dksX3_days_0 21 rfl rfl)
theorem dX3_days_22 : decode cX3_days 22 = .ok (.sipush 9999, 3) := dk_17 39 15 (dk_at dksX3_days_1 0 rfl rfl)
theorem dX3_days_25 : decode cX3_days 25 = .ok (.if_icmp .le 5, 3) := dk_164 0 5 (dk_at dksX3_days_1 3 rfl rfl)
theorem dX3_days_28 : decode cX3_days 28 = .ok (.iconst (-1), 1) := dk_2 (dk_at dksX3_days_1 6 rfl rfl)
theorem dX3_days_29 : decode cX3_days 29 = .ok (.ireturn, 1) := dk_172 (dk_at dksX3_days_1 7 rfl rfl)
theorem dX3_days_30 : decode cX3_days 30 = .ok (.iconst 0, 1) := dk_3 (dk_at dksX3_days_1 8 rfl rfl)
theorem dX3_days_31 : decode cX3_days 31 = .ok (.istore_n 2, 1) := dk_61 (dk_at dksX3_days_1 9 rfl rfl)
theorem dX3_days_32 : decode cX3_days 32 = .ok (.iconst 0, 1) := dk_3 (dk_at dksX3_days_1 10 rfl rfl)
theorem dX3_days_33 : decode cX3_days 33 = .ok (.istore_n 3, 1) := dk_62 (dk_at dksX3_days_1 11 rfl rfl)
theorem dX3_days_34 : decode cX3_days 34 = .ok (.iload_n 3, 1) := dk_29 (dk_at dksX3_days_1 12 rfl rfl)
theorem dX3_days_35 : decode cX3_days 35 = .ok (.iload_n 1, 1) := dk_27 (dk_at dksX3_days_1 13 rfl rfl)
theorem dX3_days_36 : decode cX3_days 36 = .ok (.if_icmp .ge 20, 3) := dk_162 0 20 (dk_at dksX3_days_1 14 rfl rfl)
theorem dX3_days_39 : decode cX3_days 39 = .ok (.aload_n 0, 1) := dk_42 (dk_at dksX3_days_1 17 rfl rfl)
theorem dX3_days_40 : decode cX3_days 40 = .ok (.invokevirtual 284, 3) := dk_182 1 28 (dk_at dksX3_days_1 18 rfl rfl)
theorem dX3_days_43 : decode cX3_days 43 = .ok (.ifCond .eq 7, 3) := dk_153 0 7 (dk_at dksX3_days_1 21 rfl rfl)
theorem dX3_days_46 : decode cX3_days 46 = .ok (.iload_n 2, 1) := dk_28 (dk_at dksX3_days_2 0 rfl rfl)
theorem dX3_days_47 : decode cX3_days 47 = .ok (.iconst 1, 1) := dk_4 (dk_at dksX3_days_2 1 rfl rfl)
theorem dX3_days_48 : decode cX3_days 48 = .ok (.iadd, 1) := dk_96 (dk_at dksX3_days_2 2 rfl rfl)
theorem dX3_days_49 : decode cX3_days 49 = .ok (.istore_n 2, 1) := dk_61 (dk_at dksX3_days_2 3 rfl rfl)
theorem dX3_days_50 : decode cX3_days 50 = .ok (.iinc 3 1, 3) := dk_132 3 1 (dk_at dksX3_days_2 4 rfl rfl)
theorem dX3_days_53 : decode cX3_days 53 = .ok (.goto (-19), 3) := dk_167 255 237 (dk_at dksX3_days_2 7 rfl rfl)
theorem dX3_days_56 : decode cX3_days 56 = .ok (.aload_n 0, 1) := dk_42 (dk_at dksX3_days_2 10 rfl rfl)
theorem dX3_days_57 : decode cX3_days 57 = .ok (.iconst 0, 1) := dk_3 (dk_at dksX3_days_2 11 rfl rfl)
theorem dX3_days_58 : decode cX3_days 58 = .ok (.putfield 89, 3) := dk_181 0 89 (dk_at dksX3_days_2 12 rfl rfl)
theorem dX3_days_61 : decode cX3_days 61 = .ok (.iload_n 2, 1) := dk_28 (dk_at dksX3_days_2 15 rfl rfl)
theorem dX3_days_62 : decode cX3_days 62 = .ok (.ireturn, 1) := dk_172 (dk_at dksX3_days_2 16 rfl rfl)
abbrev cX3_ends : ByteArray := prog_14_method_58_code
def yX3_ends : MethodName := ⟨RX3, "ends", "()Z"⟩
def dkwX3_ends_6 : List UInt8 := [42, 42, 180, 0, 123, 4, 96, 181, 0, 123, 27, 172]
abbrev dktX3_ends_6 : List UInt8 := dkwX3_ends_6 ++ []
def dkwX3_ends_5 : List UInt8 := [17, 1, 6, 28, 96, 42, 180, 0, 7, 17, 1, 6, 28, 96, 46, 4, 100, 79, 132, 2, 1, 167, 255, 210]
abbrev dktX3_ends_5 : List UInt8 := dkwX3_ends_5 ++ dktX3_ends_6
def dkwX3_ends_4 : List UInt8 := [180, 0, 100, 162, 0, 44, 42, 180, 0, 7, 17, 1, 6, 28, 96, 46, 158, 0, 25, 42, 180, 0, 7]
abbrev dktX3_ends_4 : List UInt8 := dkwX3_ends_4 ++ dktX3_ends_5
def dkwX3_ends_3 : List UInt8 := [162, 0, 7, 4, 167, 0, 4, 3, 181, 0, 120, 42, 180, 0, 7, 17, 1, 90, 3, 79, 3, 61, 28, 42]
abbrev dktX3_ends_3 : List UInt8 := dkwX3_ends_3 ++ dktX3_ends_4
def dkwX3_ends_2 : List UInt8 := [60, 42, 182, 1, 25, 42, 42, 180, 0, 114, 158, 0, 21, 42, 17, 3, 232, 182, 1, 12, 42, 180, 0, 114]
abbrev dktX3_ends_2 : List UInt8 := dkwX3_ends_2 ++ dktX3_ends_3
def dkwX3_ends_1 : List UInt8 := [180, 0, 7, 16, 64, 27, 96, 42, 180, 0, 71, 27, 46, 79, 132, 1, 1, 167, 255, 232, 42, 182, 1, 21]
abbrev dktX3_ends_1 : List UInt8 := dkwX3_ends_1 ++ dktX3_ends_2
def dkwX3_ends_0 : List UInt8 := [42, 182, 1, 15, 42, 3, 42, 180, 0, 120, 182, 1, 18, 3, 60, 27, 16, 64, 162, 0, 24, 42]
abbrev dktX3_ends_0 : List UInt8 := dkwX3_ends_0 ++ dktX3_ends_1
theorem dksX3_ends_0 : cX3_ends.data.toList.drop 0 = dktX3_ends_0 := by decide +kernel
theorem dksX3_ends_1 : cX3_ends.data.toList.drop 22 = dktX3_ends_1 := dk_seg dksX3_ends_0 22 rfl rfl
theorem dksX3_ends_2 : cX3_ends.data.toList.drop 46 = dktX3_ends_2 := dk_seg dksX3_ends_1 24 rfl rfl
theorem dksX3_ends_3 : cX3_ends.data.toList.drop 70 = dktX3_ends_3 := dk_seg dksX3_ends_2 24 rfl rfl
theorem dksX3_ends_4 : cX3_ends.data.toList.drop 94 = dktX3_ends_4 := dk_seg dksX3_ends_3 24 rfl rfl
theorem dksX3_ends_5 : cX3_ends.data.toList.drop 117 = dktX3_ends_5 := dk_seg dksX3_ends_4 23 rfl rfl
theorem dksX3_ends_6 : cX3_ends.data.toList.drop 141 = dktX3_ends_6 := dk_seg dksX3_ends_5 24 rfl rfl
theorem dX3_ends_0 : decode cX3_ends 0 = .ok (.aload_n 0, 1) := dk_42 (dk_at dksX3_ends_0 0 rfl rfl)
theorem dX3_ends_1 : decode cX3_ends 1 = .ok (.invokevirtual 271, 3) := dk_182 1 15 (dk_at dksX3_ends_0 1 rfl rfl)
theorem dX3_ends_4 : decode cX3_ends 4 = .ok (.aload_n 0, 1) := dk_42 (dk_at dksX3_ends_0 4 rfl rfl)
theorem dX3_ends_5 : decode cX3_ends 5 = .ok (.iconst 0, 1) := dk_3 (dk_at dksX3_ends_0 5 rfl rfl)
theorem dX3_ends_6 : decode cX3_ends 6 = .ok (.aload_n 0, 1) := dk_42 (dk_at dksX3_ends_0 6 rfl rfl)
theorem dX3_ends_7 : decode cX3_ends 7 = .ok (.getfield 120, 3) := dk_180 0 120 (dk_at dksX3_ends_0 7 rfl rfl)
theorem dX3_ends_10 : decode cX3_ends 10 = .ok (.invokevirtual 274, 3) := dk_182 1 18 (dk_at dksX3_ends_0 10 rfl rfl)
theorem dX3_ends_13 : decode cX3_ends 13 = .ok (.iconst 0, 1) := dk_3 (dk_at dksX3_ends_0 13 rfl rfl)
theorem dX3_ends_14 : decode cX3_ends 14 = .ok (.istore_n 1, 1) := dk_60 (dk_at dksX3_ends_0 14 rfl rfl)
theorem dX3_ends_15 : decode cX3_ends 15 = .ok (.iload_n 1, 1) := dk_27 (dk_at dksX3_ends_0 15 rfl rfl)
theorem dX3_ends_16 : decode cX3_ends 16 = .ok (.bipush 64, 2) := dk_16 64 (dk_at dksX3_ends_0 16 rfl rfl)
theorem dX3_ends_18 : decode cX3_ends 18 = .ok (.if_icmp .ge 24, 3) := dk_162 0 24 (dk_at dksX3_ends_0 18 rfl rfl)
theorem dX3_ends_21 : decode cX3_ends 21 = .ok (.aload_n 0, 1) := dk_42 (dk_at dksX3_ends_0 21 rfl rfl)
theorem dX3_ends_22 : decode cX3_ends 22 = .ok (.getfield 7, 3) := dk_180 0 7 (dk_at dksX3_ends_1 0 rfl rfl)
theorem dX3_ends_25 : decode cX3_ends 25 = .ok (.bipush 64, 2) := dk_16 64 (dk_at dksX3_ends_1 3 rfl rfl)
theorem dX3_ends_27 : decode cX3_ends 27 = .ok (.iload_n 1, 1) := dk_27 (dk_at dksX3_ends_1 5 rfl rfl)
theorem dX3_ends_28 : decode cX3_ends 28 = .ok (.iadd, 1) := dk_96 (dk_at dksX3_ends_1 6 rfl rfl)
theorem dX3_ends_29 : decode cX3_ends 29 = .ok (.aload_n 0, 1) := dk_42 (dk_at dksX3_ends_1 7 rfl rfl)
theorem dX3_ends_30 : decode cX3_ends 30 = .ok (.getfield 71, 3) := dk_180 0 71 (dk_at dksX3_ends_1 8 rfl rfl)
theorem dX3_ends_33 : decode cX3_ends 33 = .ok (.iload_n 1, 1) := dk_27 (dk_at dksX3_ends_1 11 rfl rfl)
theorem dX3_ends_34 : decode cX3_ends 34 = .ok (.iaload, 1) := dk_46 (dk_at dksX3_ends_1 12 rfl rfl)
theorem dX3_ends_35 : decode cX3_ends 35 = .ok (.iastore, 1) := dk_79 (dk_at dksX3_ends_1 13 rfl rfl)
theorem dX3_ends_36 : decode cX3_ends 36 = .ok (.iinc 1 1, 3) := dk_132 1 1 (dk_at dksX3_ends_1 14 rfl rfl)
theorem dX3_ends_39 : decode cX3_ends 39 = .ok (.goto (-24), 3) := dk_167 255 232 (dk_at dksX3_ends_1 17 rfl rfl)
theorem dX3_ends_42 : decode cX3_ends 42 = .ok (.aload_n 0, 1) := dk_42 (dk_at dksX3_ends_1 20 rfl rfl)
theorem dX3_ends_43 : decode cX3_ends 43 = .ok (.invokevirtual 277, 3) := dk_182 1 21 (dk_at dksX3_ends_1 21 rfl rfl)
theorem dX3_ends_46 : decode cX3_ends 46 = .ok (.istore_n 1, 1) := dk_60 (dk_at dksX3_ends_2 0 rfl rfl)
theorem dX3_ends_47 : decode cX3_ends 47 = .ok (.aload_n 0, 1) := dk_42 (dk_at dksX3_ends_2 1 rfl rfl)
theorem dX3_ends_48 : decode cX3_ends 48 = .ok (.invokevirtual 281, 3) := dk_182 1 25 (dk_at dksX3_ends_2 2 rfl rfl)
theorem dX3_ends_51 : decode cX3_ends 51 = .ok (.aload_n 0, 1) := dk_42 (dk_at dksX3_ends_2 5 rfl rfl)
theorem dX3_ends_52 : decode cX3_ends 52 = .ok (.aload_n 0, 1) := dk_42 (dk_at dksX3_ends_2 6 rfl rfl)
theorem dX3_ends_53 : decode cX3_ends 53 = .ok (.getfield 114, 3) := dk_180 0 114 (dk_at dksX3_ends_2 7 rfl rfl)
theorem dX3_ends_56 : decode cX3_ends 56 = .ok (.ifCond .le 21, 3) := dk_158 0 21 (dk_at dksX3_ends_2 10 rfl rfl)
theorem dX3_ends_59 : decode cX3_ends 59 = .ok (.aload_n 0, 1) := dk_42 (dk_at dksX3_ends_2 13 rfl rfl)
theorem dX3_ends_60 : decode cX3_ends 60 = .ok (.sipush 1000, 3) := dk_17 3 232 (dk_at dksX3_ends_2 14 rfl rfl)
theorem dX3_ends_63 : decode cX3_ends 63 = .ok (.invokevirtual 268, 3) := dk_182 1 12 (dk_at dksX3_ends_2 17 rfl rfl)
theorem dX3_ends_66 : decode cX3_ends 66 = .ok (.aload_n 0, 1) := dk_42 (dk_at dksX3_ends_2 20 rfl rfl)
theorem dX3_ends_67 : decode cX3_ends 67 = .ok (.getfield 114, 3) := dk_180 0 114 (dk_at dksX3_ends_2 21 rfl rfl)
theorem dX3_ends_70 : decode cX3_ends 70 = .ok (.if_icmp .ge 7, 3) := dk_162 0 7 (dk_at dksX3_ends_3 0 rfl rfl)
theorem dX3_ends_73 : decode cX3_ends 73 = .ok (.iconst 1, 1) := dk_4 (dk_at dksX3_ends_3 3 rfl rfl)
theorem dX3_ends_74 : decode cX3_ends 74 = .ok (.goto 4, 3) := dk_167 0 4 (dk_at dksX3_ends_3 4 rfl rfl)
theorem dX3_ends_77 : decode cX3_ends 77 = .ok (.iconst 0, 1) := dk_3 (dk_at dksX3_ends_3 7 rfl rfl)
theorem dX3_ends_78 : decode cX3_ends 78 = .ok (.putfield 120, 3) := dk_181 0 120 (dk_at dksX3_ends_3 8 rfl rfl)
theorem dX3_ends_81 : decode cX3_ends 81 = .ok (.aload_n 0, 1) := dk_42 (dk_at dksX3_ends_3 11 rfl rfl)
theorem dX3_ends_82 : decode cX3_ends 82 = .ok (.getfield 7, 3) := dk_180 0 7 (dk_at dksX3_ends_3 12 rfl rfl)
theorem dX3_ends_85 : decode cX3_ends 85 = .ok (.sipush 346, 3) := dk_17 1 90 (dk_at dksX3_ends_3 15 rfl rfl)
theorem dX3_ends_88 : decode cX3_ends 88 = .ok (.iconst 0, 1) := dk_3 (dk_at dksX3_ends_3 18 rfl rfl)
theorem dX3_ends_89 : decode cX3_ends 89 = .ok (.iastore, 1) := dk_79 (dk_at dksX3_ends_3 19 rfl rfl)
theorem dX3_ends_90 : decode cX3_ends 90 = .ok (.iconst 0, 1) := dk_3 (dk_at dksX3_ends_3 20 rfl rfl)
theorem dX3_ends_91 : decode cX3_ends 91 = .ok (.istore_n 2, 1) := dk_61 (dk_at dksX3_ends_3 21 rfl rfl)
theorem dX3_ends_92 : decode cX3_ends 92 = .ok (.iload_n 2, 1) := dk_28 (dk_at dksX3_ends_3 22 rfl rfl)
theorem dX3_ends_93 : decode cX3_ends 93 = .ok (.aload_n 0, 1) := dk_42 (dk_at dksX3_ends_3 23 rfl rfl)
theorem dX3_ends_94 : decode cX3_ends 94 = .ok (.getfield 100, 3) := dk_180 0 100 (dk_at dksX3_ends_4 0 rfl rfl)
theorem dX3_ends_97 : decode cX3_ends 97 = .ok (.if_icmp .ge 44, 3) := dk_162 0 44 (dk_at dksX3_ends_4 3 rfl rfl)
theorem dX3_ends_100 : decode cX3_ends 100 = .ok (.aload_n 0, 1) := dk_42 (dk_at dksX3_ends_4 6 rfl rfl)
theorem dX3_ends_101 : decode cX3_ends 101 = .ok (.getfield 7, 3) := dk_180 0 7 (dk_at dksX3_ends_4 7 rfl rfl)
theorem dX3_ends_104 : decode cX3_ends 104 = .ok (.sipush 262, 3) := dk_17 1 6 (dk_at dksX3_ends_4 10 rfl rfl)
theorem dX3_ends_107 : decode cX3_ends 107 = .ok (.iload_n 2, 1) := dk_28 (dk_at dksX3_ends_4 13 rfl rfl)
theorem dX3_ends_108 : decode cX3_ends 108 = .ok (.iadd, 1) := dk_96 (dk_at dksX3_ends_4 14 rfl rfl)
theorem dX3_ends_109 : decode cX3_ends 109 = .ok (.iaload, 1) := dk_46 (dk_at dksX3_ends_4 15 rfl rfl)
theorem dX3_ends_110 : decode cX3_ends 110 = .ok (.ifCond .le 25, 3) := dk_158 0 25 (dk_at dksX3_ends_4 16 rfl rfl)
theorem dX3_ends_113 : decode cX3_ends 113 = .ok (.aload_n 0, 1) := dk_42 (dk_at dksX3_ends_4 19 rfl rfl)
theorem dX3_ends_114 : decode cX3_ends 114 = .ok (.getfield 7, 3) := dk_180 0 7 (dk_at dksX3_ends_4 20 rfl rfl)
theorem dX3_ends_117 : decode cX3_ends 117 = .ok (.sipush 262, 3) := dk_17 1 6 (dk_at dksX3_ends_5 0 rfl rfl)
theorem dX3_ends_120 : decode cX3_ends 120 = .ok (.iload_n 2, 1) := dk_28 (dk_at dksX3_ends_5 3 rfl rfl)
theorem dX3_ends_121 : decode cX3_ends 121 = .ok (.iadd, 1) := dk_96 (dk_at dksX3_ends_5 4 rfl rfl)
theorem dX3_ends_122 : decode cX3_ends 122 = .ok (.aload_n 0, 1) := dk_42 (dk_at dksX3_ends_5 5 rfl rfl)
theorem dX3_ends_123 : decode cX3_ends 123 = .ok (.getfield 7, 3) := dk_180 0 7 (dk_at dksX3_ends_5 6 rfl rfl)
theorem dX3_ends_126 : decode cX3_ends 126 = .ok (.sipush 262, 3) := dk_17 1 6 (dk_at dksX3_ends_5 9 rfl rfl)
theorem dX3_ends_129 : decode cX3_ends 129 = .ok (.iload_n 2, 1) := dk_28 (dk_at dksX3_ends_5 12 rfl rfl)
theorem dX3_ends_130 : decode cX3_ends 130 = .ok (.iadd, 1) := dk_96 (dk_at dksX3_ends_5 13 rfl rfl)
theorem dX3_ends_131 : decode cX3_ends 131 = .ok (.iaload, 1) := dk_46 (dk_at dksX3_ends_5 14 rfl rfl)
theorem dX3_ends_132 : decode cX3_ends 132 = .ok (.iconst 1, 1) := dk_4 (dk_at dksX3_ends_5 15 rfl rfl)
theorem dX3_ends_133 : decode cX3_ends 133 = .ok (.isub, 1) := dk_100 (dk_at dksX3_ends_5 16 rfl rfl)
theorem dX3_ends_134 : decode cX3_ends 134 = .ok (.iastore, 1) := dk_79 (dk_at dksX3_ends_5 17 rfl rfl)
theorem dX3_ends_135 : decode cX3_ends 135 = .ok (.iinc 2 1, 3) := dk_132 2 1 (dk_at dksX3_ends_5 18 rfl rfl)
theorem dX3_ends_138 : decode cX3_ends 138 = .ok (.goto (-46), 3) := dk_167 255 210 (dk_at dksX3_ends_5 21 rfl rfl)
theorem dX3_ends_141 : decode cX3_ends 141 = .ok (.aload_n 0, 1) := dk_42 (dk_at dksX3_ends_6 0 rfl rfl)
theorem dX3_ends_142 : decode cX3_ends 142 = .ok (.aload_n 0, 1) := dk_42 (dk_at dksX3_ends_6 1 rfl rfl)
theorem dX3_ends_143 : decode cX3_ends 143 = .ok (.getfield 123, 3) := dk_180 0 123 (dk_at dksX3_ends_6 2 rfl rfl)
theorem dX3_ends_146 : decode cX3_ends 146 = .ok (.iconst 1, 1) := dk_4 (dk_at dksX3_ends_6 5 rfl rfl)
theorem dX3_ends_147 : decode cX3_ends 147 = .ok (.iadd, 1) := dk_96 (dk_at dksX3_ends_6 6 rfl rfl)
theorem dX3_ends_148 : decode cX3_ends 148 = .ok (.putfield 123, 3) := dk_181 0 123 (dk_at dksX3_ends_6 7 rfl rfl)
theorem dX3_ends_151 : decode cX3_ends 151 = .ok (.iload_n 1, 1) := dk_27 (dk_at dksX3_ends_6 10 rfl rfl)
theorem dX3_ends_152 : decode cX3_ends 152 = .ok (.ireturn, 1) := dk_172 (dk_at dksX3_ends_6 11 rfl rfl)
abbrev cX3_thinksOfSizes : ByteArray := prog_14_method_53_code
def yX3_thinksOfSizes : MethodName := ⟨RX3, "thinksOfSizes", "()V"⟩
def dkwX3_thinksOfSizes_1 : List UInt8 := [132, 1, 1, 167, 255, 232, 177]
abbrev dktX3_thinksOfSizes_1 : List UInt8 := dkwX3_thinksOfSizes_1 ++ []
def dkwX3_thinksOfSizes_0 : List UInt8 := [3, 60, 27, 16, 64, 162, 0, 24, 42, 180, 0, 71, 27, 42, 180, 0, 7, 16, 64, 27, 96, 46, 79]
abbrev dktX3_thinksOfSizes_0 : List UInt8 := dkwX3_thinksOfSizes_0 ++ dktX3_thinksOfSizes_1
theorem dksX3_thinksOfSizes_0 : cX3_thinksOfSizes.data.toList.drop 0 = dktX3_thinksOfSizes_0 := by decide +kernel
theorem dksX3_thinksOfSizes_1 : cX3_thinksOfSizes.data.toList.drop 23 = dktX3_thinksOfSizes_1 := dk_seg dksX3_thinksOfSizes_0 23 rfl rfl
theorem dX3_thinksOfSizes_0 : decode cX3_thinksOfSizes 0 = .ok (.iconst 0, 1) := dk_3 (dk_at dksX3_thinksOfSizes_0 0 rfl rfl)
theorem dX3_thinksOfSizes_1 : decode cX3_thinksOfSizes 1 = .ok (.istore_n 1, 1) := dk_60 (dk_at dksX3_thinksOfSizes_0 1 rfl rfl)
theorem dX3_thinksOfSizes_2 : decode cX3_thinksOfSizes 2 = .ok (.iload_n 1, 1) := dk_27 (dk_at dksX3_thinksOfSizes_0 2 rfl rfl)
theorem dX3_thinksOfSizes_3 : decode cX3_thinksOfSizes 3 = .ok (.bipush 64, 2) := dk_16 64 (dk_at dksX3_thinksOfSizes_0 3 rfl rfl)
theorem dX3_thinksOfSizes_5 : decode cX3_thinksOfSizes 5 = .ok (.if_icmp .ge 24, 3) := dk_162 0 24 (dk_at dksX3_thinksOfSizes_0 5 rfl rfl)
theorem dX3_thinksOfSizes_8 : decode cX3_thinksOfSizes 8 = .ok (.aload_n 0, 1) := dk_42 (dk_at dksX3_thinksOfSizes_0 8 rfl rfl)
theorem dX3_thinksOfSizes_9 : decode cX3_thinksOfSizes 9 = .ok (.getfield 71, 3) := dk_180 0 71 (dk_at dksX3_thinksOfSizes_0 9 rfl rfl)
theorem dX3_thinksOfSizes_12 : decode cX3_thinksOfSizes 12 = .ok (.iload_n 1, 1) := dk_27 (dk_at dksX3_thinksOfSizes_0 12 rfl rfl)
theorem dX3_thinksOfSizes_13 : decode cX3_thinksOfSizes 13 = .ok (.aload_n 0, 1) := dk_42 (dk_at dksX3_thinksOfSizes_0 13 rfl rfl)
theorem dX3_thinksOfSizes_14 : decode cX3_thinksOfSizes 14 = .ok (.getfield 7, 3) := dk_180 0 7 (dk_at dksX3_thinksOfSizes_0 14 rfl rfl)
theorem dX3_thinksOfSizes_17 : decode cX3_thinksOfSizes 17 = .ok (.bipush 64, 2) := dk_16 64 (dk_at dksX3_thinksOfSizes_0 17 rfl rfl)
theorem dX3_thinksOfSizes_19 : decode cX3_thinksOfSizes 19 = .ok (.iload_n 1, 1) := dk_27 (dk_at dksX3_thinksOfSizes_0 19 rfl rfl)
theorem dX3_thinksOfSizes_20 : decode cX3_thinksOfSizes 20 = .ok (.iadd, 1) := dk_96 (dk_at dksX3_thinksOfSizes_0 20 rfl rfl)
theorem dX3_thinksOfSizes_21 : decode cX3_thinksOfSizes 21 = .ok (.iaload, 1) := dk_46 (dk_at dksX3_thinksOfSizes_0 21 rfl rfl)
theorem dX3_thinksOfSizes_22 : decode cX3_thinksOfSizes 22 = .ok (.iastore, 1) := dk_79 (dk_at dksX3_thinksOfSizes_0 22 rfl rfl)
