set_option maxRecDepth 100000
def dkwX0_book_0 : List UInt8 := [27, 3, 42, 180, 0, 20, 180, 0, 184, 4, 100, 184, 0, 50, 153, 0, 26, 28, 3, 6, 184, 0, 50]
abbrev dktX0_book_0 : List UInt8 := dkwX0_book_0 ++ dktX0_book_1
theorem dksX0_book_0 : cX0_book.data.toList.drop 0 = dktX0_book_0 := by decide +kernel
theorem dksX0_book_1 : cX0_book.data.toList.drop 23 = dktX0_book_1 := dk_seg dksX0_book_0 23 rfl rfl
theorem dX0_book_0 : decode cX0_book 0 = .ok (.iload_n 1, 1) := dk_27 (dk_at dksX0_book_0 0 rfl rfl)
theorem dX0_book_1 : decode cX0_book 1 = .ok (.iconst 0, 1) := dk_3 (dk_at dksX0_book_0 1 rfl rfl)
theorem dX0_book_2 : decode cX0_book 2 = .ok (.aload_n 0, 1) := dk_42 (dk_at dksX0_book_0 2 rfl rfl)
theorem dX0_book_3 : decode cX0_book 3 = .ok (.getfield 20, 3) := dk_180 0 20 (dk_at dksX0_book_0 3 rfl rfl)
theorem dX0_book_6 : decode cX0_book 6 = .ok (.getfield 184, 3) := dk_180 0 184 (dk_at dksX0_book_0 6 rfl rfl)
theorem dX0_book_9 : decode cX0_book 9 = .ok (.iconst 1, 1) := dk_4 (dk_at dksX0_book_0 9 rfl rfl)
theorem dX0_book_10 : decode cX0_book 10 = .ok (.isub, 1) := dk_100 (dk_at dksX0_book_0 10 rfl rfl)
theorem dX0_book_11 : decode cX0_book 11 = .ok (.invokestatic 50, 3) := dk_184 0 50 (dk_at dksX0_book_0 11 rfl rfl)
theorem dX0_book_14 : decode cX0_book 14 = .ok (.ifCond .eq 26, 3) := dk_153 0 26 (dk_at dksX0_book_0 14 rfl rfl)
theorem dX0_book_17 : decode cX0_book 17 = .ok (.iload_n 2, 1) := dk_28 (dk_at dksX0_book_0 17 rfl rfl)
theorem dX0_book_18 : decode cX0_book 18 = .ok (.iconst 0, 1) := dk_3 (dk_at dksX0_book_0 18 rfl rfl)
theorem dX0_book_19 : decode cX0_book 19 = .ok (.iconst 3, 1) := dk_6 (dk_at dksX0_book_0 19 rfl rfl)
theorem dX0_book_20 : decode cX0_book 20 = .ok (.invokestatic 50, 3) := dk_184 0 50 (dk_at dksX0_book_0 20 rfl rfl)
theorem dX0_book_23 : decode cX0_book 23 = .ok (.ifCond .eq 17, 3) := dk_153 0 17 (dk_at dksX0_book_1 0 rfl rfl)
theorem dX0_book_26 : decode cX0_book 26 = .ok (.aload_n 0, 1) := dk_42 (dk_at dksX0_book_1 3 rfl rfl)
theorem dX0_book_27 : decode cX0_book 27 = .ok (.getfield 20, 3) := dk_180 0 20 (dk_at dksX0_book_1 4 rfl rfl)
theorem dX0_book_30 : decode cX0_book 30 = .ok (.getfield 187, 3) := dk_180 0 187 (dk_at dksX0_book_1 7 rfl rfl)
theorem dX0_book_33 : decode cX0_book 33 = .ok (.iload_n 1, 1) := dk_27 (dk_at dksX0_book_1 10 rfl rfl)
theorem dX0_book_34 : decode cX0_book 34 = .ok (.aaload, 1) := dk_50 (dk_at dksX0_book_1 11 rfl rfl)
theorem dX0_book_35 : decode cX0_book 35 = .ok (.iload_n 2, 1) := dk_28 (dk_at dksX0_book_1 12 rfl rfl)
theorem dX0_book_36 : decode cX0_book 36 = .ok (.iaload, 1) := dk_46 (dk_at dksX0_book_1 13 rfl rfl)
theorem dX0_book_37 : decode cX0_book 37 = .ok (.goto 4, 3) := dk_167 0 4 (dk_at dksX0_book_1 14 rfl rfl)
theorem dX0_book_40 : decode cX0_book 40 = .ok (.iconst (-1), 1) := dk_2 (dk_at dksX0_book_1 17 rfl rfl)
theorem dX0_book_41 : decode cX0_book 41 = .ok (.ireturn, 1) := dk_172 (dk_at dksX0_book_1 18 rfl rfl)
abbrev cX0_soup : ByteArray := prog_1_method_32_code
def yX0_soup : MethodName := ⟨RX0, "soup", "(III)I"⟩
def dkwX0_soup_9 : List UInt8 := [21, 6, 159, 0, 9, 132, 7, 1, 167, 255, 214, 21, 7, 172]
abbrev dktX0_soup_9 : List UInt8 := dkwX0_soup_9 ++ []
def dkwX0_soup_8 : List UInt8 := [21, 5, 21, 7, 184, 0, 220, 42, 180, 0, 36, 4, 42, 21, 7, 182, 0, 217, 120, 50, 21, 7, 46, 96]
abbrev dktX0_soup_8 : List UInt8 := dkwX0_soup_8 ++ dktX0_soup_9
def dkwX0_soup_7 : List UInt8 := [161, 0, 7, 2, 167, 0, 5, 21, 6, 172, 3, 54, 7, 42, 21, 7, 182, 0, 217, 2, 159, 0, 32]
abbrev dktX0_soup_7 : List UInt8 := dkwX0_soup_7 ++ dktX0_soup_8
def dkwX0_soup_6 : List UInt8 := [21, 5, 3, 182, 0, 231, 54, 6, 21, 6, 18, 216, 162, 0, 7, 29, 154, 0, 17, 21, 6, 18, 216]
abbrev dktX0_soup_6 : List UInt8 := dkwX0_soup_6 ++ dktX0_soup_7
def dkwX0_soup_5 : List UInt8 := [167, 255, 207, 132, 5, 255, 167, 255, 193, 42, 180, 0, 20, 180, 0, 130, 27, 50, 180, 0, 150, 54, 5, 42]
abbrev dktX0_soup_5 : List UInt8 := dkwX0_soup_5 ++ dktX0_soup_6
def dkwX0_soup_4 : List UInt8 := [21, 5, 21, 4, 160, 0, 7, 3, 167, 0, 11, 42, 21, 6, 21, 5, 182, 0, 231, 79, 132, 6, 1]
abbrev dktX0_soup_4 : List UInt8 := dkwX0_soup_4 ++ dktX0_soup_5
def dkwX0_soup_3 : List UInt8 := [16, 64, 162, 0, 48, 42, 21, 6, 182, 0, 217, 2, 159, 0, 32, 42, 180, 0, 36, 21, 5, 50, 21, 6]
abbrev dktX0_soup_3 : List UInt8 := dkwX0_soup_3 ++ dktX0_soup_4
def dkwX0_soup_2 : List UInt8 := [42, 28, 182, 0, 228, 120, 4, 100, 54, 4, 21, 4, 54, 5, 21, 5, 158, 0, 64, 3, 54, 6, 21, 6]
abbrev dktX0_soup_2 : List UInt8 := dkwX0_soup_2 ++ dktX0_soup_3
def dkwX0_soup_1 : List UInt8 := [153, 0, 21, 28, 184, 0, 223, 16, 6, 163, 0, 12, 29, 3, 4, 184, 0, 50, 154, 0, 5, 2, 172, 4]
abbrev dktX0_soup_1 : List UInt8 := dkwX0_soup_1 ++ dktX0_soup_2
def dkwX0_soup_0 : List UInt8 := [42, 27, 182, 0, 147, 153, 0, 40, 28, 4, 4, 42, 180, 0, 20, 180, 0, 100, 120, 4, 100, 184, 0, 50]
abbrev dktX0_soup_0 : List UInt8 := dkwX0_soup_0 ++ dktX0_soup_1
theorem dksX0_soup_0 : cX0_soup.data.toList.drop 0 = dktX0_soup_0 := by decide +kernel
theorem dksX0_soup_1 : cX0_soup.data.toList.drop 24 = dktX0_soup_1 := dk_seg dksX0_soup_0 24 rfl rfl
theorem dksX0_soup_2 : cX0_soup.data.toList.drop 48 = dktX0_soup_2 := dk_seg dksX0_soup_1 24 rfl rfl
theorem dksX0_soup_3 : cX0_soup.data.toList.drop 72 = dktX0_soup_3 := dk_seg dksX0_soup_2 24 rfl rfl
theorem dksX0_soup_4 : cX0_soup.data.toList.drop 96 = dktX0_soup_4 := dk_seg dksX0_soup_3 24 rfl rfl
theorem dksX0_soup_5 : cX0_soup.data.toList.drop 119 = dktX0_soup_5 := dk_seg dksX0_soup_4 23 rfl rfl
theorem dksX0_soup_6 : cX0_soup.data.toList.drop 143 = dktX0_soup_6 := dk_seg dksX0_soup_5 24 rfl rfl
theorem dksX0_soup_7 : cX0_soup.data.toList.drop 166 = dktX0_soup_7 := dk_seg dksX0_soup_6 23 rfl rfl
theorem dksX0_soup_8 : cX0_soup.data.toList.drop 189 = dktX0_soup_8 := dk_seg dksX0_soup_7 23 rfl rfl
theorem dksX0_soup_9 : cX0_soup.data.toList.drop 213 = dktX0_soup_9 := dk_seg dksX0_soup_8 24 rfl rfl
theorem dX0_soup_0 : decode cX0_soup 0 = .ok (.aload_n 0, 1) := dk_42 (dk_at dksX0_soup_0 0 rfl rfl)
theorem dX0_soup_1 : decode cX0_soup 1 = .ok (.iload_n 1, 1) := dk_27 (dk_at dksX0_soup_0 1 rfl rfl)
theorem dX0_soup_2 : decode cX0_soup 2 = .ok (.invokevirtual 147, 3) := dk_182 0 147 (dk_at dksX0_soup_0 2 rfl rfl)
theorem dX0_soup_5 : decode cX0_soup 5 = .ok (.ifCond .eq 40, 3) := dk_153 0 40 (dk_at dksX0_soup_0 5 rfl rfl)
theorem dX0_soup_8 : decode cX0_soup 8 = .ok (.iload_n 2, 1) := dk_28 (dk_at dksX0_soup_0 8 rfl rfl)
theorem dX0_soup_9 : decode cX0_soup 9 = .ok (.iconst 1, 1) := dk_4 (dk_at dksX0_soup_0 9 rfl rfl)
theorem dX0_soup_10 : decode cX0_soup 10 = .ok (.iconst 1, 1) := dk_4 (dk_at dksX0_soup_0 10 rfl rfl)
theorem dX0_soup_11 : decode cX0_soup 11 = .ok (.aload_n 0, 1) := dk_42 (dk_at dksX0_soup_0 11 rfl rfl)
theorem dX0_soup_12 : decode cX0_soup 12 = .ok (.getfield 20, 3) := dk_180 0 20 (dk_at dksX0_soup_0 12 rfl rfl)
theorem dX0_soup_15 : decode cX0_soup 15 = .ok (.getfield 100, 3) := dk_180 0 100 (dk_at dksX0_soup_0 15 rfl rfl)
theorem dX0_soup_18 : decode cX0_soup 18 = .ok (.ishl, 1) := dk_120 (dk_at dksX0_soup_0 18 rfl rfl)
theorem dX0_soup_19 : decode cX0_soup 19 = .ok (.iconst 1, 1) := dk_4 (dk_at dksX0_soup_0 19 rfl rfl)
theorem dX0_soup_20 : decode cX0_soup 20 = .ok (.isub, 1) := dk_100 (dk_at dksX0_soup_0 20 rfl rfl)
theorem dX0_soup_21 : decode cX0_soup 21 = .ok (.invokestatic 50, 3) := dk_184 0 50 (dk_at dksX0_soup_0 21 rfl rfl)
theorem dX0_soup_24 : decode cX0_soup 24 = .ok (.ifCond .eq 21, 3) := dk_153 0 21 (dk_at dksX0_soup_1 0 rfl rfl)
theorem dX0_soup_27 : decode cX0_soup 27 = .ok (.iload_n 2, 1) := dk_28 (dk_at dksX0_soup_1 3 rfl rfl)
theorem dX0_soup_28 : decode cX0_soup 28 = .ok (.invokestatic 223, 3) := dk_184 0 223 (dk_at dksX0_soup_1 4 rfl rfl)
theorem dX0_soup_31 : decode cX0_soup 31 = .ok (.bipush 6, 2) := dk_16 6 (dk_at dksX0_soup_1 7 rfl rfl)
theorem dX0_soup_33 : decode cX0_soup 33 = .ok (.if_icmp .gt 12, 3) := dk_163 0 12 (dk_at dksX0_soup_1 9 rfl rfl)
theorem dX0_soup_36 : decode cX0_soup 36 = .ok (.iload_n 3, 1) := dk_29 (dk_at dksX0_soup_1 12 rfl rfl)
theorem dX0_soup_37 : decode cX0_soup 37 = .ok (.iconst 0, 1) := dk_3 (dk_at dksX0_soup_1 13 rfl rfl)
theorem dX0_soup_38 : decode cX0_soup 38 = .ok (.iconst 1, 1) := dk_4 (dk_at dksX0_soup_1 14 rfl rfl)
theorem dX0_soup_39 : decode cX0_soup 39 = .ok (.invokestatic 50, 3) := dk_184 0 50 (dk_at dksX0_soup_1 15 rfl rfl)
theorem dX0_soup_42 : decode cX0_soup 42 = .ok (.ifCond .ne 5, 3) := dk_154 0 5 (dk_at dksX0_soup_1 18 rfl rfl)
theorem dX0_soup_45 : decode cX0_soup 45 = .ok (.iconst (-1), 1) := dk_2 (dk_at dksX0_soup_1 21 rfl rfl)
theorem dX0_soup_46 : decode cX0_soup 46 = .ok (.ireturn, 1) := dk_172 (dk_at dksX0_soup_1 22 rfl rfl)
theorem dX0_soup_47 : decode cX0_soup 47 = .ok (.iconst 1, 1) := dk_4 (dk_at dksX0_soup_1 23 rfl rfl)
theorem dX0_soup_48 : decode cX0_soup 48 = .ok (.aload_n 0, 1) := dk_42 (dk_at dksX0_soup_2 0 rfl rfl)
theorem dX0_soup_49 : decode cX0_soup 49 = .ok (.iload_n 2, 1) := dk_28 (dk_at dksX0_soup_2 1 rfl rfl)
theorem dX0_soup_50 : decode cX0_soup 50 = .ok (.invokevirtual 228, 3) := dk_182 0 228 (dk_at dksX0_soup_2 2 rfl rfl)
theorem dX0_soup_53 : decode cX0_soup 53 = .ok (.ishl, 1) := dk_120 (dk_at dksX0_soup_2 5 rfl rfl)
theorem dX0_soup_54 : decode cX0_soup 54 = .ok (.iconst 1, 1) := dk_4 (dk_at dksX0_soup_2 6 rfl rfl)
theorem dX0_soup_55 : decode cX0_soup 55 = .ok (.isub, 1) := dk_100 (dk_at dksX0_soup_2 7 rfl rfl)
theorem dX0_soup_56 : decode cX0_soup 56 = .ok (.istore 4, 2) := dk_54 4 (dk_at dksX0_soup_2 8 rfl rfl)
theorem dX0_soup_58 : decode cX0_soup 58 = .ok (.iload 4, 2) := dk_21 4 (dk_at dksX0_soup_2 10 rfl rfl)
theorem dX0_soup_60 : decode cX0_soup 60 = .ok (.istore 5, 2) := dk_54 5 (dk_at dksX0_soup_2 12 rfl rfl)
theorem dX0_soup_62 : decode cX0_soup 62 = .ok (.iload 5, 2) := dk_21 5 (dk_at dksX0_soup_2 14 rfl rfl)
theorem dX0_soup_64 : decode cX0_soup 64 = .ok (.ifCond .le 64, 3) := dk_158 0 64 (dk_at dksX0_soup_2 16 rfl rfl)
theorem dX0_soup_67 : decode cX0_soup 67 = .ok (.iconst 0, 1) := dk_3 (dk_at dksX0_soup_2 19 rfl rfl)
theorem dX0_soup_68 : decode cX0_soup 68 = .ok (.istore 6, 2) := dk_54 6 (dk_at dksX0_soup_2 20 rfl rfl)
theorem dX0_soup_70 : decode cX0_soup 70 = .ok (.iload 6, 2) := dk_21 6 (dk_at dksX0_soup_2 22 rfl rfl)
theorem dX0_soup_72 : decode cX0_soup 72 = .ok (.bipush 64, 2) := dk_16 64 (dk_at dksX0_soup_3 0 rfl rfl)
theorem dX0_soup_74 : decode cX0_soup 74 = .ok (.if_icmp .ge 48, 3) := dk_162 0 48 (dk_at dksX0_soup_3 2 rfl rfl)
theorem dX0_soup_77 : decode cX0_soup 77 = .ok (.aload_n 0, 1) := dk_42 (dk_at dksX0_soup_3 5 rfl rfl)
theorem dX0_soup_78 : decode cX0_soup 78 = .ok (.iload 6, 2) := dk_21 6 (dk_at dksX0_soup_3 6 rfl rfl)
theorem dX0_soup_80 : decode cX0_soup 80 = .ok (.invokevirtual 217, 3) := dk_182 0 217 (dk_at dksX0_soup_3 8 rfl rfl)
theorem dX0_soup_83 : decode cX0_soup 83 = .ok (.iconst (-1), 1) := dk_2 (dk_at dksX0_soup_3 11 rfl rfl)
theorem dX0_soup_84 : decode cX0_soup 84 = .ok (.if_icmp .eq 32, 3) := dk_159 0 32 (dk_at dksX0_soup_3 12 rfl rfl)
theorem dX0_soup_87 : decode cX0_soup 87 = .ok (.aload_n 0, 1) := dk_42 (dk_at dksX0_soup_3 15 rfl rfl)
theorem dX0_soup_88 : decode cX0_soup 88 = .ok (.getfield 36, 3) := dk_180 0 36 (dk_at dksX0_soup_3 16 rfl rfl)
theorem dX0_soup_91 : decode cX0_soup 91 = .ok (.iload 5, 2) := dk_21 5 (dk_at dksX0_soup_3 19 rfl rfl)
theorem dX0_soup_93 : decode cX0_soup 93 = .ok (.aaload, 1) := dk_50 (dk_at dksX0_soup_3 21 rfl rfl)
theorem dX0_soup_94 : decode cX0_soup 94 = .ok (.iload 6, 2) := dk_21 6 (dk_at dksX0_soup_3 22 rfl rfl)
theorem dX0_soup_96 : decode cX0_soup 96 = .ok (.iload 5, 2) := dk_21 5 (dk_at dksX0_soup_4 0 rfl rfl)
theorem dX0_soup_98 : decode cX0_soup 98 = .ok (.iload 4, 2) := dk_21 4 (dk_at dksX0_soup_4 2 rfl rfl)
theorem dX0_soup_100 : decode cX0_soup 100 = .ok (.if_icmp .ne 7, 3) := dk_160 0 7 (dk_at dksX0_soup_4 4 rfl rfl)
theorem dX0_soup_103 : decode cX0_soup 103 = .ok (.iconst 0, 1) := dk_3 (dk_at dksX0_soup_4 7 rfl rfl)
theorem dX0_soup_104 : decode cX0_soup 104 = .ok (.goto 11, 3) := dk_167 0 11 (dk_at dksX0_soup_4 8 rfl rfl)
theorem dX0_soup_107 : decode cX0_soup 107 = .ok (.aload_n 0, 1) := dk_42 (dk_at dksX0_soup_4 11 rfl rfl)
theorem dX0_soup_108 : decode cX0_soup 108 = .ok (.iload 6, 2) := dk_21 6 (dk_at dksX0_soup_4 12 rfl rfl)
theorem dX0_soup_110 : decode cX0_soup 110 = .ok (.iload 5, 2) := dk_21 5 (dk_at dksX0_soup_4 14 rfl rfl)
theorem dX0_soup_112 : decode cX0_soup 112 = .ok (.invokevirtual 231, 3) := dk_182 0 231 (dk_at dksX0_soup_4 16 rfl rfl)
theorem dX0_soup_115 : decode cX0_soup 115 = .ok (.iastore, 1) := dk_79 (dk_at dksX0_soup_4 19 rfl rfl)
theorem dX0_soup_116 : decode cX0_soup 116 = .ok (.iinc 6 1, 3) := dk_132 6 1 (dk_at dksX0_soup_4 20 rfl rfl)
theorem dX0_soup_119 : decode cX0_soup 119 = .ok (.goto (-49), 3) := dk_167 255 207 (dk_at dksX0_soup_5 0 rfl rfl)
theorem dX0_soup_122 : decode cX0_soup 122 = .ok (.iinc 5 (-1), 3) := dk_132 5 255 (dk_at dksX0_soup_5 3 rfl rfl)
theorem dX0_soup_125 : decode cX0_soup 125 = .ok (.goto (-63), 3) := dk_167 255 193 (dk_at dksX0_soup_5 6 rfl rfl)
theorem dX0_soup_128 : decode cX0_soup 128 = .ok (.aload_n 0, 1) := dk_42 (dk_at dksX0_soup_5 9 rfl rfl)
theorem dX0_soup_129 : decode cX0_soup 129 = .ok (.getfield 20, 3) := dk_180 0 20 (dk_at dksX0_soup_5 10 rfl rfl)
theorem dX0_soup_132 : decode cX0_soup 132 = .ok (.getfield 130, 3) := dk_180 0 130 (dk_at dksX0_soup_5 13 rfl rfl)
theorem dX0_soup_135 : decode cX0_soup 135 = .ok (.iload_n 1, 1) := dk_27 (dk_at dksX0_soup_5 16 rfl rfl)
theorem dX0_soup_136 : decode cX0_soup 136 = .ok (.aaload, 1) := dk_50 (dk_at dksX0_soup_5 17 rfl rfl)
theorem dX0_soup_137 : decode cX0_soup 137 = .ok (.getfield 150, 3) := dk_180 0 150 (dk_at dksX0_soup_5 18 rfl rfl)
theorem dX0_soup_140 : decode cX0_soup 140 = .ok (.istore 5, 2) := dk_54 5 (dk_at dksX0_soup_5 21 rfl rfl)
theorem dX0_soup_142 : decode cX0_soup 142 = .ok (.aload_n 0, 1) := dk_42 (dk_at dksX0_soup_5 23 rfl rfl)
theorem dX0_soup_143 : decode cX0_soup 143 = .ok (.iload 5, 2) := dk_21 5 (dk_at dksX0_soup_6 0 rfl rfl)
theorem dX0_soup_145 : decode cX0_soup 145 = .ok (.iconst 0, 1) := dk_3 (dk_at dksX0_soup_6 2 rfl rfl)
theorem dX0_soup_146 : decode cX0_soup 146 = .ok (.invokevirtual 231, 3) := dk_182 0 231 (dk_at dksX0_soup_6 3 rfl rfl)
theorem dX0_soup_149 : decode cX0_soup 149 = .ok (.istore 6, 2) := dk_54 6 (dk_at dksX0_soup_6 6 rfl rfl)
theorem dX0_soup_151 : decode cX0_soup 151 = .ok (.iload 6, 2) := dk_21 6 (dk_at dksX0_soup_6 8 rfl rfl)
theorem dX0_soup_153 : decode cX0_soup 153 = .ok (.ldc 216, 2) := dk_18 216 (dk_at dksX0_soup_6 10 rfl rfl)
theorem dX0_soup_155 : decode cX0_soup 155 = .ok (.if_icmp .ge 7, 3) := dk_162 0 7 (dk_at dksX0_soup_6 12 rfl rfl)
theorem dX0_soup_158 : decode cX0_soup 158 = .ok (.iload_n 3, 1) := dk_29 (dk_at dksX0_soup_6 15 rfl rfl)
theorem dX0_soup_159 : decode cX0_soup 159 = .ok (.ifCond .ne 17, 3) := dk_154 0 17 (dk_at dksX0_soup_6 16 rfl rfl)
theorem dX0_soup_162 : decode cX0_soup 162 = .ok (.iload 6, 2) := dk_21 6 (dk_at dksX0_soup_6 19 rfl rfl)
theorem dX0_soup_164 : decode cX0_soup 164 = .ok (.ldc 216, 2) := dk_18 216 (dk_at dksX0_soup_6 21 rfl rfl)
theorem dX0_soup_166 : decode cX0_soup 166 = .ok (.if_icmp .lt 7, 3) := dk_161 0 7 (dk_at dksX0_soup_7 0 rfl rfl)
theorem dX0_soup_169 : decode cX0_soup 169 = .ok (.iconst (-1), 1) := dk_2 (dk_at dksX0_soup_7 3 rfl rfl)
theorem dX0_soup_170 : decode cX0_soup 170 = .ok (.goto 5, 3) := dk_167 0 5 (dk_at dksX0_soup_7 4 rfl rfl)
theorem dX0_soup_173 : decode cX0_soup 173 = .ok (.iload 6, 2) := dk_21 6 (dk_at dksX0_soup_7 7 rfl rfl)
theorem dX0_soup_175 : decode cX0_soup 175 = .ok (.ireturn, 1) := dk_172 (dk_at dksX0_soup_7 9 rfl rfl)
theorem dX0_soup_176 : decode cX0_soup 176 = .ok (.iconst 0, 1) := dk_3 (dk_at dksX0_soup_7 10 rfl rfl)
theorem dX0_soup_177 : decode cX0_soup 177 = .ok (.istore 7, 2) := dk_54 7 (dk_at dksX0_soup_7 11 rfl rfl)
theorem dX0_soup_179 : decode cX0_soup 179 = .ok (.aload_n 0, 1) := dk_42 (dk_at dksX0_soup_7 13 rfl rfl)
theorem dX0_soup_180 : decode cX0_soup 180 = .ok (.iload 7, 2) := dk_21 7 (dk_at dksX0_soup_7 14 rfl rfl)
theorem dX0_soup_182 : decode cX0_soup 182 = .ok (.invokevirtual 217, 3) := dk_182 0 217 (dk_at dksX0_soup_7 16 rfl rfl)
theorem dX0_soup_185 : decode cX0_soup 185 = .ok (.iconst (-1), 1) := dk_2 (dk_at dksX0_soup_7 19 rfl rfl)
theorem dX0_soup_186 : decode cX0_soup 186 = .ok (.if_icmp .eq 32, 3) := dk_159 0 32 (dk_at dksX0_soup_7 20 rfl rfl)
theorem dX0_soup_189 : decode cX0_soup 189 = .ok (.iload 5, 2) := dk_21 5 (dk_at dksX0_soup_8 0 rfl rfl)
theorem dX0_soup_191 : decode cX0_soup 191 = .ok (.iload 7, 2) := dk_21 7 (dk_at dksX0_soup_8 2 rfl rfl)
theorem dX0_soup_193 : decode cX0_soup 193 = .ok (.invokestatic 220, 3) := dk_184 0 220 (dk_at dksX0_soup_8 4 rfl rfl)
theorem dX0_soup_196 : decode cX0_soup 196 = .ok (.aload_n 0, 1) := dk_42 (dk_at dksX0_soup_8 7 rfl rfl)
theorem dX0_soup_197 : decode cX0_soup 197 = .ok (.getfield 36, 3) := dk_180 0 36 (dk_at dksX0_soup_8 8 rfl rfl)
theorem dX0_soup_200 : decode cX0_soup 200 = .ok (.iconst 1, 1) := dk_4 (dk_at dksX0_soup_8 11 rfl rfl)
theorem dX0_soup_201 : decode cX0_soup 201 = .ok (.aload_n 0, 1) := dk_42 (dk_at dksX0_soup_8 12 rfl rfl)
theorem dX0_soup_202 : decode cX0_soup 202 = .ok (.iload 7, 2) := dk_21 7 (dk_at dksX0_soup_8 13 rfl rfl)
theorem dX0_soup_204 : decode cX0_soup 204 = .ok (.invokevirtual 217, 3) := dk_182 0 217 (dk_at dksX0_soup_8 15 rfl rfl)
theorem dX0_soup_207 : decode cX0_soup 207 = .ok (.ishl, 1) := dk_120 (dk_at dksX0_soup_8 18 rfl rfl)
theorem dX0_soup_208 : decode cX0_soup 208 = .ok (.aaload, 1) := dk_50 (dk_at dksX0_soup_8 19 rfl rfl)
theorem dX0_soup_209 : decode cX0_soup 209 = .ok (.iload 7, 2) := dk_21 7 (dk_at dksX0_soup_8 20 rfl rfl)
theorem dX0_soup_211 : decode cX0_soup 211 = .ok (.iaload, 1) := dk_46 (dk_at dksX0_soup_8 22 rfl rfl)
theorem dX0_soup_212 : decode cX0_soup 212 = .ok (.iadd, 1) := dk_96 (dk_at dksX0_soup_8 23 rfl rfl)
theorem dX0_soup_213 : decode cX0_soup 213 = .ok (.iload 6, 2) := dk_21 6 (dk_at dksX0_soup_9 0 rfl rfl)
theorem dX0_soup_215 : decode cX0_soup 215 = .ok (.if_icmp .eq 9, 3) := dk_159 0 9 (dk_at dksX0_soup_9 2 rfl rfl)
theorem dX0_soup_218 : decode cX0_soup 218 = .ok (.iinc 7 1, 3) := dk_132 7 1 (dk_at dksX0_soup_9 5 rfl rfl)
theorem dX0_soup_221 : decode cX0_soup 221 = .ok (.goto (-42), 3) := dk_167 255 214 (dk_at dksX0_soup_9 8 rfl rfl)
theorem dX0_soup_224 : decode cX0_soup 224 = .ok (.iload 7, 2) := dk_21 7 (dk_at dksX0_soup_9 11 rfl rfl)
theorem dX0_soup_226 : decode cX0_soup 226 = .ok (.ireturn, 1) := dk_172 (dk_at dksX0_soup_9 13 rfl rfl)
abbrev cX0_laysSpices : ByteArray := prog_1_method_29_code
def yX0_laysSpices : MethodName := ⟨RX0, "laysSpices", "(I)I"⟩
def dkwX0_laysSpices_1 : List UInt8 := [154, 0, 6, 167, 0, 13, 42, 180, 0, 39, 29, 28, 79, 132, 2, 1, 132, 3, 1, 167, 255, 219, 28, 172]
abbrev dktX0_laysSpices_1 : List UInt8 := dkwX0_laysSpices_1 ++ []
def dkwX0_laysSpices_0 : List UInt8 := [3, 61, 3, 62, 29, 16, 12, 162, 0, 37, 42, 180, 0, 39, 29, 2, 79, 27, 29, 122, 4, 126]
abbrev dktX0_laysSpices_0 : List UInt8 := dkwX0_laysSpices_0 ++ dktX0_laysSpices_1
theorem dksX0_laysSpices_0 : cX0_laysSpices.data.toList.drop 0 = dktX0_laysSpices_0 := by decide +kernel
theorem dksX0_laysSpices_1 : cX0_laysSpices.data.toList.drop 22 = dktX0_laysSpices_1 := dk_seg dksX0_laysSpices_0 22 rfl rfl
theorem dX0_laysSpices_0 : decode cX0_laysSpices 0 = .ok (.iconst 0, 1) := dk_3 (dk_at dksX0_laysSpices_0 0 rfl rfl)
theorem dX0_laysSpices_1 : decode cX0_laysSpices 1 = .ok (.istore_n 2, 1) := dk_61 (dk_at dksX0_laysSpices_0 1 rfl rfl)
theorem dX0_laysSpices_2 : decode cX0_laysSpices 2 = .ok (.iconst 0, 1) := dk_3 (dk_at dksX0_laysSpices_0 2 rfl rfl)
theorem dX0_laysSpices_3 : decode cX0_laysSpices 3 = .ok (.istore_n 3, 1) := dk_62 (dk_at dksX0_laysSpices_0 3 rfl rfl)
theorem dX0_laysSpices_4 : decode cX0_laysSpices 4 = .ok (.iload_n 3, 1) := dk_29 (dk_at dksX0_laysSpices_0 4 rfl rfl)
theorem dX0_laysSpices_5 : decode cX0_laysSpices 5 = .ok (.bipush 12, 2) := dk_16 12 (dk_at dksX0_laysSpices_0 5 rfl rfl)
theorem dX0_laysSpices_7 : decode cX0_laysSpices 7 = .ok (.if_icmp .ge 37, 3) := dk_162 0 37 (dk_at dksX0_laysSpices_0 7 rfl rfl)
theorem dX0_laysSpices_10 : decode cX0_laysSpices 10 = .ok (.aload_n 0, 1) := dk_42 (dk_at dksX0_laysSpices_0 10 rfl rfl)
theorem dX0_laysSpices_11 : decode cX0_laysSpices 11 = .ok (.getfield 39, 3) := dk_180 0 39 (dk_at dksX0_laysSpices_0 11 rfl rfl)
theorem dX0_laysSpices_14 : decode cX0_laysSpices 14 = .ok (.iload_n 3, 1) := dk_29 (dk_at dksX0_laysSpices_0 14 rfl rfl)
theorem dX0_laysSpices_15 : decode cX0_laysSpices 15 = .ok (.iconst (-1), 1) := dk_2 (dk_at dksX0_laysSpices_0 15 rfl rfl)
theorem dX0_laysSpices_16 : decode cX0_laysSpices 16 = .ok (.iastore, 1) := dk_79 (dk_at dksX0_laysSpices_0 16 rfl rfl)
theorem dX0_laysSpices_17 : decode cX0_laysSpices 17 = .ok (.iload_n 1, 1) := dk_27 (dk_at dksX0_laysSpices_0 17 rfl rfl)
theorem dX0_laysSpices_18 : decode cX0_laysSpices 18 = .ok (.iload_n 3, 1) := dk_29 (dk_at dksX0_laysSpices_0 18 rfl rfl)
theorem dX0_laysSpices_19 : decode cX0_laysSpices 19 = .ok (.ishr, 1) := dk_122 (dk_at dksX0_laysSpices_0 19 rfl rfl)
theorem dX0_laysSpices_20 : decode cX0_laysSpices 20 = .ok (.iconst 1, 1) := dk_4 (dk_at dksX0_laysSpices_0 20 rfl rfl)
theorem dX0_laysSpices_21 : decode cX0_laysSpices 21 = .ok (.iand, 1) := dk_126 (dk_at dksX0_laysSpices_0 21 rfl rfl)
theorem dX0_laysSpices_22 : decode cX0_laysSpices 22 = .ok (.ifCond .ne 6, 3) := dk_154 0 6 (dk_at dksX0_laysSpices_1 0 rfl rfl)
theorem dX0_laysSpices_25 : decode cX0_laysSpices 25 = .ok (.goto 13, 3) := dk_167 0 13 (dk_at dksX0_laysSpices_1 3 rfl rfl)
theorem dX0_laysSpices_28 : decode cX0_laysSpices 28 = .ok (.aload_n 0, 1) := dk_42 (dk_at dksX0_laysSpices_1 6 rfl rfl)
theorem dX0_laysSpices_29 : decode cX0_laysSpices 29 = .ok (.getfield 39, 3) := dk_180 0 39 (dk_at dksX0_laysSpices_1 7 rfl rfl)
theorem dX0_laysSpices_32 : decode cX0_laysSpices 32 = .ok (.iload_n 3, 1) := dk_29 (dk_at dksX0_laysSpices_1 10 rfl rfl)
theorem dX0_laysSpices_33 : decode cX0_laysSpices 33 = .ok (.iload_n 2, 1) := dk_28 (dk_at dksX0_laysSpices_1 11 rfl rfl)
theorem dX0_laysSpices_34 : decode cX0_laysSpices 34 = .ok (.iastore, 1) := dk_79 (dk_at dksX0_laysSpices_1 12 rfl rfl)
theorem dX0_laysSpices_35 : decode cX0_laysSpices 35 = .ok (.iinc 2 1, 3) := dk_132 2 1 (dk_at dksX0_laysSpices_1 13 rfl rfl)
theorem dX0_laysSpices_38 : decode cX0_laysSpices 38 = .ok (.iinc 3 1, 3) := dk_132 3 1 (dk_at dksX0_laysSpices_1 16 rfl rfl)
theorem dX0_laysSpices_41 : decode cX0_laysSpices 41 = .ok (.goto (-37), 3) := dk_167 255 219 (dk_at dksX0_laysSpices_1 19 rfl rfl)
theorem dX0_laysSpices_44 : decode cX0_laysSpices 44 = .ok (.iload_n 2, 1) := dk_28 (dk_at dksX0_laysSpices_1 22 rfl rfl)
theorem dX0_laysSpices_45 : decode cX0_laysSpices 45 = .ok (.ireturn, 1) := dk_172 (dk_at dksX0_laysSpices_1 23 rfl rfl)
abbrev cX0_spiceAt : ByteArray := prog_1_method_30_code
def yX0_spiceAt : MethodName := ⟨RX0, "spiceAt", "(I)I"⟩
def dkwX0_spiceAt_1 : List UInt8 := [46, 167, 0, 4, 2, 172]
abbrev dktX0_spiceAt_1 : List UInt8 := dkwX0_spiceAt_1 ++ []
def dkwX0_spiceAt_0 : List UInt8 := [42, 180, 0, 20, 27, 182, 0, 168, 153, 0, 20, 42, 180, 0, 39, 42, 180, 0, 20, 180, 0, 171, 27, 46]
abbrev dktX0_spiceAt_0 : List UInt8 := dkwX0_spiceAt_0 ++ dktX0_spiceAt_1
theorem dksX0_spiceAt_0 : cX0_spiceAt.data.toList.drop 0 = dktX0_spiceAt_0 := by decide +kernel
theorem dksX0_spiceAt_1 : cX0_spiceAt.data.toList.drop 24 = dktX0_spiceAt_1 := dk_seg dksX0_spiceAt_0 24 rfl rfl
theorem dX0_spiceAt_0 : decode cX0_spiceAt 0 = .ok (.aload_n 0, 1) := dk_42 (dk_at dksX0_spiceAt_0 0 rfl rfl)
theorem dX0_spiceAt_1 : decode cX0_spiceAt 1 = .ok (.getfield 20, 3) := dk_180 0 20 (dk_at dksX0_spiceAt_0 1 rfl rfl)
theorem dX0_spiceAt_4 : decode cX0_spiceAt 4 = .ok (.iload_n 1, 1) := dk_27 (dk_at dksX0_spiceAt_0 4 rfl rfl)
theorem dX0_spiceAt_5 : decode cX0_spiceAt 5 = .ok (.invokevirtual 168, 3) := dk_182 0 168 (dk_at dksX0_spiceAt_0 5 rfl rfl)
theorem dX0_spiceAt_8 : decode cX0_spiceAt 8 = .ok (.ifCond .eq 20, 3) := dk_153 0 20 (dk_at dksX0_spiceAt_0 8 rfl rfl)
theorem dX0_spiceAt_11 : decode cX0_spiceAt 11 = .ok (.aload_n 0, 1) := dk_42 (dk_at dksX0_spiceAt_0 11 rfl rfl)
theorem dX0_spiceAt_12 : decode cX0_spiceAt 12 = .ok (.getfield 39, 3) := dk_180 0 39 (dk_at dksX0_spiceAt_0 12 rfl rfl)
theorem dX0_spiceAt_15 : decode cX0_spiceAt 15 = .ok (.aload_n 0, 1) := dk_42 (dk_at dksX0_spiceAt_0 15 rfl rfl)
theorem dX0_spiceAt_16 : decode cX0_spiceAt 16 = .ok (.getfield 20, 3) := dk_180 0 20 (dk_at dksX0_spiceAt_0 16 rfl rfl)
theorem dX0_spiceAt_19 : decode cX0_spiceAt 19 = .ok (.getfield 171, 3) := dk_180 0 171 (dk_at dksX0_spiceAt_0 19 rfl rfl)
theorem dX0_spiceAt_22 : decode cX0_spiceAt 22 = .ok (.iload_n 1, 1) := dk_27 (dk_at dksX0_spiceAt_0 22 rfl rfl)
theorem dX0_spiceAt_23 : decode cX0_spiceAt 23 = .ok (.iaload, 1) := dk_46 (dk_at dksX0_spiceAt_0 23 rfl rfl)
theorem dX0_spiceAt_24 : decode cX0_spiceAt 24 = .ok (.iaload, 1) := dk_46 (dk_at dksX0_spiceAt_1 0 rfl rfl)
theorem dX0_spiceAt_25 : decode cX0_spiceAt 25 = .ok (.goto 4, 3) := dk_167 0 4 (dk_at dksX0_spiceAt_1 1 rfl rfl)
theorem dX0_spiceAt_28 : decode cX0_spiceAt 28 = .ok (.iconst (-1), 1) := dk_2 (dk_at dksX0_spiceAt_1 4 rfl rfl)
theorem dX0_spiceAt_29 : decode cX0_spiceAt 29 = .ok (.ireturn, 1) := dk_172 (dk_at dksX0_spiceAt_1 5 rfl rfl)
abbrev cX0_onwards : ByteArray := prog_1_method_31_code
def yX0_onwards : MethodName := ⟨RX0, "onwards", "(II)I"⟩
def dkwX0_onwards_2 : List UInt8 := [4, 21, 5, 120, 128, 50, 21, 4, 46, 96, 184, 0, 193, 62, 132, 4, 1, 167, 255, 197, 29, 172]
abbrev dktX0_onwards_2 : List UInt8 := dkwX0_onwards_2 ++ []
def dkwX0_onwards_1 : List UInt8 := [159, 0, 38, 28, 21, 5, 122, 4, 126, 154, 0, 29, 29, 27, 21, 4, 184, 0, 220, 42, 180, 0, 36, 28]
abbrev dktX0_onwards_1 : List UInt8 := dkwX0_onwards_1 ++ dktX0_onwards_2
def dkwX0_onwards_0 : List UInt8 := [18, 216, 62, 3, 54, 4, 21, 4, 16, 64, 162, 0, 58, 42, 21, 4, 182, 0, 217, 54, 5, 21, 5, 2]
abbrev dktX0_onwards_0 : List UInt8 := dkwX0_onwards_0 ++ dktX0_onwards_1
theorem dksX0_onwards_0 : cX0_onwards.data.toList.drop 0 = dktX0_onwards_0 := by decide +kernel
theorem dksX0_onwards_1 : cX0_onwards.data.toList.drop 24 = dktX0_onwards_1 := dk_seg dksX0_onwards_0 24 rfl rfl
theorem dksX0_onwards_2 : cX0_onwards.data.toList.drop 48 = dktX0_onwards_2 := dk_seg dksX0_onwards_1 24 rfl rfl
theorem dX0_onwards_0 : decode cX0_onwards 0 = .ok (.ldc 216, 2) := dk_18 216 (dk_at dksX0_onwards_0 0 rfl rfl)
theorem dX0_onwards_2 : decode cX0_onwards 2 = .ok (.istore_n 3, 1) := dk_62 (dk_at dksX0_onwards_0 2 rfl rfl)
theorem dX0_onwards_3 : decode cX0_onwards 3 = .ok (.iconst 0, 1) := dk_3 (dk_at dksX0_onwards_0 3 rfl rfl)
theorem dX0_onwards_4 : decode cX0_onwards 4 = .ok (.istore 4, 2) := dk_54 4 (dk_at dksX0_onwards_0 4 rfl rfl)
theorem dX0_onwards_6 : decode cX0_onwards 6 = .ok (.iload 4, 2) := dk_21 4 (dk_at dksX0_onwards_0 6 rfl rfl)
theorem dX0_onwards_8 : decode cX0_onwards 8 = .ok (.bipush 64, 2) := dk_16 64 (dk_at dksX0_onwards_0 8 rfl rfl)
theorem dX0_onwards_10 : decode cX0_onwards 10 = .ok (.if_icmp .ge 58, 3) := dk_162 0 58 (dk_at dksX0_onwards_0 10 rfl rfl)
theorem dX0_onwards_13 : decode cX0_onwards 13 = .ok (.aload_n 0, 1) := dk_42 (dk_at dksX0_onwards_0 13 rfl rfl)
theorem dX0_onwards_14 : decode cX0_onwards 14 = .ok (.iload 4, 2) := dk_21 4 (dk_at dksX0_onwards_0 14 rfl rfl)
theorem dX0_onwards_16 : decode cX0_onwards 16 = .ok (.invokevirtual 217, 3) := dk_182 0 217 (dk_at dksX0_onwards_0 16 rfl rfl)
theorem dX0_onwards_19 : decode cX0_onwards 19 = .ok (.istore 5, 2) := dk_54 5 (dk_at dksX0_onwards_0 19 rfl rfl)
theorem dX0_onwards_21 : decode cX0_onwards 21 = .ok (.iload 5, 2) := dk_21 5 (dk_at dksX0_onwards_0 21 rfl rfl)
theorem dX0_onwards_23 : decode cX0_onwards 23 = .ok (.iconst (-1), 1) := dk_2 (dk_at dksX0_onwards_0 23 rfl rfl)
theorem dX0_onwards_24 : decode cX0_onwards 24 = .ok (.if_icmp .eq 38, 3) := dk_159 0 38 (dk_at dksX0_onwards_1 0 rfl rfl)
theorem dX0_onwards_27 : decode cX0_onwards 27 = .ok (.iload_n 2, 1) := dk_28 (dk_at dksX0_onwards_1 3 rfl rfl)
theorem dX0_onwards_28 : decode cX0_onwards 28 = .ok (.iload 5, 2) := dk_21 5 (dk_at dksX0_onwards_1 4 rfl rfl)
theorem dX0_onwards_30 : decode cX0_onwards 30 = .ok (.ishr, 1) := dk_122 (dk_at dksX0_onwards_1 6 rfl rfl)
theorem dX0_onwards_31 : decode cX0_onwards 31 = .ok (.iconst 1, 1) := dk_4 (dk_at dksX0_onwards_1 7 rfl rfl)
theorem dX0_onwards_32 : decode cX0_onwards 32 = .ok (.iand, 1) := dk_126 (dk_at dksX0_onwards_1 8 rfl rfl)
theorem dX0_onwards_33 : decode cX0_onwards 33 = .ok (.ifCond .ne 29, 3) := dk_154 0 29 (dk_at dksX0_onwards_1 9 rfl rfl)
theorem dX0_onwards_36 : decode cX0_onwards 36 = .ok (.iload_n 3, 1) := dk_29 (dk_at dksX0_onwards_1 12 rfl rfl)
theorem dX0_onwards_37 : decode cX0_onwards 37 = .ok (.iload_n 1, 1) := dk_27 (dk_at dksX0_onwards_1 13 rfl rfl)
theorem dX0_onwards_38 : decode cX0_onwards 38 = .ok (.iload 4, 2) := dk_21 4 (dk_at dksX0_onwards_1 14 rfl rfl)
theorem dX0_onwards_40 : decode cX0_onwards 40 = .ok (.invokestatic 220, 3) := dk_184 0 220 (dk_at dksX0_onwards_1 16 rfl rfl)
theorem dX0_onwards_43 : decode cX0_onwards 43 = .ok (.aload_n 0, 1) := dk_42 (dk_at dksX0_onwards_1 19 rfl rfl)
theorem dX0_onwards_44 : decode cX0_onwards 44 = .ok (.getfield 36, 3) := dk_180 0 36 (dk_at dksX0_onwards_1 20 rfl rfl)
theorem dX0_onwards_47 : decode cX0_onwards 47 = .ok (.iload_n 2, 1) := dk_28 (dk_at dksX0_onwards_1 23 rfl rfl)
theorem dX0_onwards_48 : decode cX0_onwards 48 = .ok (.iconst 1, 1) := dk_4 (dk_at dksX0_onwards_2 0 rfl rfl)
theorem dX0_onwards_49 : decode cX0_onwards 49 = .ok (.iload 5, 2) := dk_21 5 (dk_at dksX0_onwards_2 1 rfl rfl)
theorem dX0_onwards_51 : decode cX0_onwards 51 = .ok (.ishl, 1) := dk_120 (dk_at dksX0_onwards_2 3 rfl rfl)
theorem dX0_onwards_52 : decode cX0_onwards 52 = .ok (.ior, 1) := dk_128 (dk_at dksX0_onwards_2 4 rfl rfl)
theorem dX0_onwards_53 : decode cX0_onwards 53 = .ok (.aaload, 1) := dk_50 (dk_at dksX0_onwards_2 5 rfl rfl)
theorem dX0_onwards_54 : decode cX0_onwards 54 = .ok (.iload 4, 2) := dk_21 4 (dk_at dksX0_onwards_2 6 rfl rfl)
theorem dX0_onwards_56 : decode cX0_onwards 56 = .ok (.iaload, 1) := dk_46 (dk_at dksX0_onwards_2 8 rfl rfl)
theorem dX0_onwards_57 : decode cX0_onwards 57 = .ok (.iadd, 1) := dk_96 (dk_at dksX0_onwards_2 9 rfl rfl)
theorem dX0_onwards_58 : decode cX0_onwards 58 = .ok (.invokestatic 193, 3) := dk_184 0 193 (dk_at dksX0_onwards_2 10 rfl rfl)
theorem dX0_onwards_61 : decode cX0_onwards 61 = .ok (.istore_n 3, 1) := dk_62 (dk_at dksX0_onwards_2 13 rfl rfl)
theorem dX0_onwards_62 : decode cX0_onwards 62 = .ok (.iinc 4 1, 3) := dk_132 4 1 (dk_at dksX0_onwards_2 14 rfl rfl)
theorem dX0_onwards_65 : decode cX0_onwards 65 = .ok (.goto (-59), 3) := dk_167 255 197 (dk_at dksX0_onwards_2 17 rfl rfl)
theorem dX0_onwards_68 : decode cX0_onwards 68 = .ok (.iload_n 3, 1) := dk_29 (dk_at dksX0_onwards_2 20 rfl rfl)
theorem dX0_onwards_69 : decode cX0_onwards 69 = .ok (.ireturn, 1) := dk_172 (dk_at dksX0_onwards_2 21 rfl rfl)
abbrev cX0_unsaid : ByteArray := prog_1_method_34_code
def yX0_unsaid : MethodName := ⟨RX0, "unsaid", "(II)I"⟩
def dkwX0_unsaid_2 : List UInt8 := [180, 0, 20, 180, 0, 171, 21, 4, 46, 120, 128, 62, 132, 4, 1, 167, 255, 209, 29, 172]
abbrev dktX0_unsaid_2 : List UInt8 := dkwX0_unsaid_2 ++ []
def dkwX0_unsaid_1 : List UInt8 := [180, 0, 20, 21, 4, 182, 0, 168, 153, 0, 28, 21, 4, 27, 184, 0, 220, 28, 163, 0, 18, 29, 4, 42]
abbrev dktX0_unsaid_1 : List UInt8 := dkwX0_unsaid_1 ++ dktX0_unsaid_2
def dkwX0_unsaid_0 : List UInt8 := [42, 27, 28, 182, 0, 234, 154, 0, 5, 2, 172, 3, 62, 3, 54, 4, 21, 4, 16, 64, 162, 0, 46, 42]
abbrev dktX0_unsaid_0 : List UInt8 := dkwX0_unsaid_0 ++ dktX0_unsaid_1
theorem dksX0_unsaid_0 : cX0_unsaid.data.toList.drop 0 = dktX0_unsaid_0 := by decide +kernel
theorem dksX0_unsaid_1 : cX0_unsaid.data.toList.drop 24 = dktX0_unsaid_1 := dk_seg dksX0_unsaid_0 24 rfl rfl
theorem dksX0_unsaid_2 : cX0_unsaid.data.toList.drop 48 = dktX0_unsaid_2 := dk_seg dksX0_unsaid_1 24 rfl rfl
theorem dX0_unsaid_0 : decode cX0_unsaid 0 = .ok (.aload_n 0, 1) := dk_42 (dk_at dksX0_unsaid_0 0 rfl rfl)
theorem dX0_unsaid_1 : decode cX0_unsaid 1 = .ok (.iload_n 1, 1) := dk_27 (dk_at dksX0_unsaid_0 1 rfl rfl)
theorem dX0_unsaid_2 : decode cX0_unsaid 2 = .ok (.iload_n 2, 1) := dk_28 (dk_at dksX0_unsaid_0 2 rfl rfl)
theorem dX0_unsaid_3 : decode cX0_unsaid 3 = .ok (.invokevirtual 234, 3) := dk_182 0 234 (dk_at dksX0_unsaid_0 3 rfl rfl)
theorem dX0_unsaid_6 : decode cX0_unsaid 6 = .ok (.ifCond .ne 5, 3) := dk_154 0 5 (dk_at dksX0_unsaid_0 6 rfl rfl)
theorem dX0_unsaid_9 : decode cX0_unsaid 9 = .ok (.iconst (-1), 1) := dk_2 (dk_at dksX0_unsaid_0 9 rfl rfl)
theorem dX0_unsaid_10 : decode cX0_unsaid 10 = .ok (.ireturn, 1) := dk_172 (dk_at dksX0_unsaid_0 10 rfl rfl)
theorem dX0_unsaid_11 : decode cX0_unsaid 11 = .ok (.iconst 0, 1) := dk_3 (dk_at dksX0_unsaid_0 11 rfl rfl)
theorem dX0_unsaid_12 : decode cX0_unsaid 12 = .ok (.istore_n 3, 1) := dk_62 (dk_at dksX0_unsaid_0 12 rfl rfl)
theorem dX0_unsaid_13 : decode cX0_unsaid 13 = .ok (.iconst 0, 1) := dk_3 (dk_at dksX0_unsaid_0 13 rfl rfl)
theorem dX0_unsaid_14 : decode cX0_unsaid 14 = .ok (.istore 4, 2) := dk_54 4 (dk_at dksX0_unsaid_0 14 rfl rfl)
theorem dX0_unsaid_16 : decode cX0_unsaid 16 = .ok (.iload 4, 2) := dk_21 4 (dk_at dksX0_unsaid_0 16 rfl rfl)
theorem dX0_unsaid_18 : decode cX0_unsaid 18 = .ok (.bipush 64, 2) := dk_16 64 (dk_at dksX0_unsaid_0 18 rfl rfl)
theorem dX0_unsaid_20 : decode cX0_unsaid 20 = .ok (.if_icmp .ge 46, 3) := dk_162 0 46 (dk_at dksX0_unsaid_0 20 rfl rfl)
theorem dX0_unsaid_23 : decode cX0_unsaid 23 = .ok (.aload_n 0, 1) := dk_42 (dk_at dksX0_unsaid_0 23 rfl rfl)
theorem dX0_unsaid_24 : decode cX0_unsaid 24 = .ok (.getfield 20, 3) := dk_180 0 20 (dk_at dksX0_unsaid_1 0 rfl rfl)
theorem dX0_unsaid_27 : decode cX0_unsaid 27 = .ok (.iload 4, 2) := dk_21 4 (dk_at dksX0_unsaid_1 3 rfl rfl)
theorem dX0_unsaid_29 : decode cX0_unsaid 29 = .ok (.invokevirtual 168, 3) := dk_182 0 168 (dk_at dksX0_unsaid_1 5 rfl rfl)
theorem dX0_unsaid_32 : decode cX0_unsaid 32 = .ok (.ifCond .eq 28, 3) := dk_153 0 28 (dk_at dksX0_unsaid_1 8 rfl rfl)
theorem dX0_unsaid_35 : decode cX0_unsaid 35 = .ok (.iload 4, 2) := dk_21 4 (dk_at dksX0_unsaid_1 11 rfl rfl)
theorem dX0_unsaid_37 : decode cX0_unsaid 37 = .ok (.iload_n 1, 1) := dk_27 (dk_at dksX0_unsaid_1 13 rfl rfl)
theorem dX0_unsaid_38 : decode cX0_unsaid 38 = .ok (.invokestatic 220, 3) := dk_184 0 220 (dk_at dksX0_unsaid_1 14 rfl rfl)
theorem dX0_unsaid_41 : decode cX0_unsaid 41 = .ok (.iload_n 2, 1) := dk_28 (dk_at dksX0_unsaid_1 17 rfl rfl)
theorem dX0_unsaid_42 : decode cX0_unsaid 42 = .ok (.if_icmp .gt 18, 3) := dk_163 0 18 (dk_at dksX0_unsaid_1 18 rfl rfl)
theorem dX0_unsaid_45 : decode cX0_unsaid 45 = .ok (.iload_n 3, 1) := dk_29 (dk_at dksX0_unsaid_1 21 rfl rfl)
theorem dX0_unsaid_46 : decode cX0_unsaid 46 = .ok (.iconst 1, 1) := dk_4 (dk_at dksX0_unsaid_1 22 rfl rfl)
theorem dX0_unsaid_47 : decode cX0_unsaid 47 = .ok (.aload_n 0, 1) := dk_42 (dk_at dksX0_unsaid_1 23 rfl rfl)
theorem dX0_unsaid_48 : decode cX0_unsaid 48 = .ok (.getfield 20, 3) := dk_180 0 20 (dk_at dksX0_unsaid_2 0 rfl rfl)
theorem dX0_unsaid_51 : decode cX0_unsaid 51 = .ok (.getfield 171, 3) := dk_180 0 171 (dk_at dksX0_unsaid_2 3 rfl rfl)
theorem dX0_unsaid_54 : decode cX0_unsaid 54 = .ok (.iload 4, 2) := dk_21 4 (dk_at dksX0_unsaid_2 6 rfl rfl)
theorem dX0_unsaid_56 : decode cX0_unsaid 56 = .ok (.iaload, 1) := dk_46 (dk_at dksX0_unsaid_2 8 rfl rfl)
theorem dX0_unsaid_57 : decode cX0_unsaid 57 = .ok (.ishl, 1) := dk_120 (dk_at dksX0_unsaid_2 9 rfl rfl)
theorem dX0_unsaid_58 : decode cX0_unsaid 58 = .ok (.ior, 1) := dk_128 (dk_at dksX0_unsaid_2 10 rfl rfl)
theorem dX0_unsaid_59 : decode cX0_unsaid 59 = .ok (.istore_n 3, 1) := dk_62 (dk_at dksX0_unsaid_2 11 rfl rfl)
theorem dX0_unsaid_60 : decode cX0_unsaid 60 = .ok (.iinc 4 1, 3) := dk_132 4 1 (dk_at dksX0_unsaid_2 12 rfl rfl)
theorem dX0_unsaid_63 : decode cX0_unsaid 63 = .ok (.goto (-47), 3) := dk_167 255 209 (dk_at dksX0_unsaid_2 15 rfl rfl)
theorem dX0_unsaid_66 : decode cX0_unsaid 66 = .ok (.iload_n 3, 1) := dk_29 (dk_at dksX0_unsaid_2 18 rfl rfl)
theorem dX0_unsaid_67 : decode cX0_unsaid 67 = .ok (.ireturn, 1) := dk_172 (dk_at dksX0_unsaid_2 19 rfl rfl)
abbrev cX0_isRound : ByteArray := prog_1_method_33_code
def yX0_isRound : MethodName := ⟨RX0, "isRound", "(II)Z"⟩
def dkwX0_isRound_1 : List UInt8 := [167, 0, 4, 3, 172]
abbrev dktX0_isRound_1 : List UInt8 := dkwX0_isRound_1 ++ []
def dkwX0_isRound_0 : List UInt8 := [42, 180, 0, 20, 27, 182, 0, 114, 153, 0, 17, 28, 3, 16, 14, 184, 0, 50, 153, 0, 7, 4]
abbrev dktX0_isRound_0 : List UInt8 := dkwX0_isRound_0 ++ dktX0_isRound_1
theorem dksX0_isRound_0 : cX0_isRound.data.toList.drop 0 = dktX0_isRound_0 := by decide +kernel
theorem dksX0_isRound_1 : cX0_isRound.data.toList.drop 22 = dktX0_isRound_1 := dk_seg dksX0_isRound_0 22 rfl rfl
theorem dX0_isRound_0 : decode cX0_isRound 0 = .ok (.aload_n 0, 1) := dk_42 (dk_at dksX0_isRound_0 0 rfl rfl)
theorem dX0_isRound_1 : decode cX0_isRound 1 = .ok (.getfield 20, 3) := dk_180 0 20 (dk_at dksX0_isRound_0 1 rfl rfl)
theorem dX0_isRound_4 : decode cX0_isRound 4 = .ok (.iload_n 1, 1) := dk_27 (dk_at dksX0_isRound_0 4 rfl rfl)
theorem dX0_isRound_5 : decode cX0_isRound 5 = .ok (.invokevirtual 114, 3) := dk_182 0 114 (dk_at dksX0_isRound_0 5 rfl rfl)
theorem dX0_isRound_8 : decode cX0_isRound 8 = .ok (.ifCond .eq 17, 3) := dk_153 0 17 (dk_at dksX0_isRound_0 8 rfl rfl)
theorem dX0_isRound_11 : decode cX0_isRound 11 = .ok (.iload_n 2, 1) := dk_28 (dk_at dksX0_isRound_0 11 rfl rfl)
theorem dX0_isRound_12 : decode cX0_isRound 12 = .ok (.iconst 0, 1) := dk_3 (dk_at dksX0_isRound_0 12 rfl rfl)
theorem dX0_isRound_13 : decode cX0_isRound 13 = .ok (.bipush 14, 2) := dk_16 14 (dk_at dksX0_isRound_0 13 rfl rfl)
theorem dX0_isRound_15 : decode cX0_isRound 15 = .ok (.invokestatic 50, 3) := dk_184 0 50 (dk_at dksX0_isRound_0 15 rfl rfl)
theorem dX0_isRound_18 : decode cX0_isRound 18 = .ok (.ifCond .eq 7, 3) := dk_153 0 7 (dk_at dksX0_isRound_0 18 rfl rfl)
theorem dX0_isRound_21 : decode cX0_isRound 21 = .ok (.iconst 1, 1) := dk_4 (dk_at dksX0_isRound_0 21 rfl rfl)
theorem dX0_isRound_22 : decode cX0_isRound 22 = .ok (.goto 4, 3) := dk_167 0 4 (dk_at dksX0_isRound_1 0 rfl rfl)
theorem dX0_isRound_25 : decode cX0_isRound 25 = .ok (.iconst 0, 1) := dk_3 (dk_at dksX0_isRound_1 3 rfl rfl)
theorem dX0_isRound_26 : decode cX0_isRound 26 = .ok (.ireturn, 1) := dk_172 (dk_at dksX0_isRound_1 4 rfl rfl)
abbrev cX0_odds : ByteArray := prog_1_method_37_code
def yX0_odds : MethodName := ⟨RX0, "odds", "(IIII)I"⟩
def dkwX0_odds_7 : List UInt8 := [108, 172]
abbrev dktX0_odds_7 : List UInt8 := dkwX0_odds_7 ++ []
def dkwX0_odds_6 : List UInt8 := [21, 8, 184, 0, 238, 54, 9, 21, 4, 154, 0, 11, 21, 7, 21, 9, 108, 167, 0, 8, 21, 8, 21, 9]
abbrev dktX0_odds_6 : List UInt8 := dkwX0_odds_6 ++ dktX0_odds_7
def dkwX0_odds_5 : List UInt8 := [162, 0, 5, 2, 172, 21, 6, 29, 184, 0, 241, 54, 7, 21, 5, 29, 184, 0, 241, 54, 8, 21, 7]
abbrev dktX0_odds_5 : List UInt8 := dkwX0_odds_5 ++ dktX0_odds_6
def dkwX0_odds_4 : List UInt8 := [46, 46, 154, 0, 7, 4, 167, 0, 4, 3, 96, 54, 6, 132, 7, 1, 167, 255, 187, 21, 5, 29]
abbrev dktX0_odds_4 : List UInt8 := dkwX0_odds_4 ++ dktX0_odds_5
def dkwX0_odds_3 : List UInt8 := [167, 0, 37, 132, 5, 1, 21, 6, 42, 180, 0, 20, 180, 0, 124, 42, 180, 0, 20, 180, 0, 171, 21, 7]
abbrev dktX0_odds_3 : List UInt8 := dkwX0_odds_3 ++ dktX0_odds_4
def dkwX0_odds_2 : List UInt8 := [42, 180, 0, 20, 21, 7, 182, 0, 168, 153, 0, 50, 21, 7, 27, 184, 0, 220, 28, 164, 0, 6]
abbrev dktX0_odds_2 : List UInt8 := dkwX0_odds_2 ++ dktX0_odds_3
def dkwX0_odds_1 : List UInt8 := [184, 0, 50, 154, 0, 5, 2, 172, 3, 54, 5, 3, 54, 6, 3, 54, 7, 21, 7, 16, 64, 162, 0, 68]
abbrev dktX0_odds_1 : List UInt8 := dkwX0_odds_1 ++ dktX0_odds_2
def dkwX0_odds_0 : List UInt8 := [42, 27, 28, 182, 0, 234, 153, 0, 22, 29, 4, 7, 184, 0, 50, 153, 0, 13, 21, 4, 3, 4]
abbrev dktX0_odds_0 : List UInt8 := dkwX0_odds_0 ++ dktX0_odds_1
theorem dksX0_odds_0 : cX0_odds.data.toList.drop 0 = dktX0_odds_0 := by decide +kernel
theorem dksX0_odds_1 : cX0_odds.data.toList.drop 22 = dktX0_odds_1 := dk_seg dksX0_odds_0 22 rfl rfl
theorem dksX0_odds_2 : cX0_odds.data.toList.drop 46 = dktX0_odds_2 := dk_seg dksX0_odds_1 24 rfl rfl
theorem dksX0_odds_3 : cX0_odds.data.toList.drop 68 = dktX0_odds_3 := dk_seg dksX0_odds_2 22 rfl rfl
theorem dksX0_odds_4 : cX0_odds.data.toList.drop 92 = dktX0_odds_4 := dk_seg dksX0_odds_3 24 rfl rfl
theorem dksX0_odds_5 : cX0_odds.data.toList.drop 114 = dktX0_odds_5 := dk_seg dksX0_odds_4 22 rfl rfl
theorem dksX0_odds_6 : cX0_odds.data.toList.drop 137 = dktX0_odds_6 := dk_seg dksX0_odds_5 23 rfl rfl
theorem dksX0_odds_7 : cX0_odds.data.toList.drop 161 = dktX0_odds_7 := dk_seg dksX0_odds_6 24 rfl rfl
theorem dX0_odds_0 : decode cX0_odds 0 = .ok (.aload_n 0, 1) := dk_42 (dk_at dksX0_odds_0 0 rfl rfl)
theorem dX0_odds_1 : decode cX0_odds 1 = .ok (.iload_n 1, 1) := dk_27 (dk_at dksX0_odds_0 1 rfl rfl)
theorem dX0_odds_2 : decode cX0_odds 2 = .ok (.iload_n 2, 1) := dk_28 (dk_at dksX0_odds_0 2 rfl rfl)
theorem dX0_odds_3 : decode cX0_odds 3 = .ok (.invokevirtual 234, 3) := dk_182 0 234 (dk_at dksX0_odds_0 3 rfl rfl)
theorem dX0_odds_6 : decode cX0_odds 6 = .ok (.ifCond .eq 22, 3) := dk_153 0 22 (dk_at dksX0_odds_0 6 rfl rfl)
theorem dX0_odds_9 : decode cX0_odds 9 = .ok (.iload_n 3, 1) := dk_29 (dk_at dksX0_odds_0 9 rfl rfl)
theorem dX0_odds_10 : decode cX0_odds 10 = .ok (.iconst 1, 1) := dk_4 (dk_at dksX0_odds_0 10 rfl rfl)
theorem dX0_odds_11 : decode cX0_odds 11 = .ok (.iconst 4, 1) := dk_7 (dk_at dksX0_odds_0 11 rfl rfl)
theorem dX0_odds_12 : decode cX0_odds 12 = .ok (.invokestatic 50, 3) := dk_184 0 50 (dk_at dksX0_odds_0 12 rfl rfl)
theorem dX0_odds_15 : decode cX0_odds 15 = .ok (.ifCond .eq 13, 3) := dk_153 0 13 (dk_at dksX0_odds_0 15 rfl rfl)
theorem dX0_odds_18 : decode cX0_odds 18 = .ok (.iload 4, 2) := dk_21 4 (dk_at dksX0_odds_0 18 rfl rfl)
theorem dX0_odds_20 : decode cX0_odds 20 = .ok (.iconst 0, 1) := dk_3 (dk_at dksX0_odds_0 20 rfl rfl)
theorem dX0_odds_21 : decode cX0_odds 21 = .ok (.iconst 1, 1) := dk_4 (dk_at dksX0_odds_0 21 rfl rfl)
theorem dX0_odds_22 : decode cX0_odds 22 = .ok (.invokestatic 50, 3) := dk_184 0 50 (dk_at dksX0_odds_1 0 rfl rfl)
theorem dX0_odds_25 : decode cX0_odds 25 = .ok (.ifCond .ne 5, 3) := dk_154 0 5 (dk_at dksX0_odds_1 3 rfl rfl)
theorem dX0_odds_28 : decode cX0_odds 28 = .ok (.iconst (-1), 1) := dk_2 (dk_at dksX0_odds_1 6 rfl rfl)
theorem dX0_odds_29 : decode cX0_odds 29 = .ok (.ireturn, 1) := dk_172 (dk_at dksX0_odds_1 7 rfl rfl)
theorem dX0_odds_30 : decode cX0_odds 30 = .ok (.iconst 0, 1) := dk_3 (dk_at dksX0_odds_1 8 rfl rfl)
theorem dX0_odds_31 : decode cX0_odds 31 = .ok (.istore 5, 2) := dk_54 5 (dk_at dksX0_odds_1 9 rfl rfl)
theorem dX0_odds_33 : decode cX0_odds 33 = .ok (.iconst 0, 1) := dk_3 (dk_at dksX0_odds_1 11 rfl rfl)
theorem dX0_odds_34 : decode cX0_odds 34 = .ok (.istore 6, 2) := dk_54 6 (dk_at dksX0_odds_1 12 rfl rfl)
theorem dX0_odds_36 : decode cX0_odds 36 = .ok (.iconst 0, 1) := dk_3 (dk_at dksX0_odds_1 14 rfl rfl)
theorem dX0_odds_37 : decode cX0_odds 37 = .ok (.istore 7, 2) := dk_54 7 (dk_at dksX0_odds_1 15 rfl rfl)
theorem dX0_odds_39 : decode cX0_odds 39 = .ok (.iload 7, 2) := dk_21 7 (dk_at dksX0_odds_1 17 rfl rfl)
theorem dX0_odds_41 : decode cX0_odds 41 = .ok (.bipush 64, 2) := dk_16 64 (dk_at dksX0_odds_1 19 rfl rfl)
theorem dX0_odds_43 : decode cX0_odds 43 = .ok (.if_icmp .ge 68, 3) := dk_162 0 68 (dk_at dksX0_odds_1 21 rfl rfl)
theorem dX0_odds_46 : decode cX0_odds 46 = .ok (.aload_n 0, 1) := dk_42 (dk_at dksX0_odds_2 0 rfl rfl)
theorem dX0_odds_47 : decode cX0_odds 47 = .ok (.getfield 20, 3) := dk_180 0 20 (dk_at dksX0_odds_2 1 rfl rfl)
theorem dX0_odds_50 : decode cX0_odds 50 = .ok (.iload 7, 2) := dk_21 7 (dk_at dksX0_odds_2 4 rfl rfl)
theorem dX0_odds_52 : decode cX0_odds 52 = .ok (.invokevirtual 168, 3) := dk_182 0 168 (dk_at dksX0_odds_2 6 rfl rfl)
theorem dX0_odds_55 : decode cX0_odds 55 = .ok (.ifCond .eq 50, 3) := dk_153 0 50 (dk_at dksX0_odds_2 9 rfl rfl)
theorem dX0_odds_58 : decode cX0_odds 58 = .ok (.iload 7, 2) := dk_21 7 (dk_at dksX0_odds_2 12 rfl rfl)
theorem dX0_odds_60 : decode cX0_odds 60 = .ok (.iload_n 1, 1) := dk_27 (dk_at dksX0_odds_2 14 rfl rfl)
theorem dX0_odds_61 : decode cX0_odds 61 = .ok (.invokestatic 220, 3) := dk_184 0 220 (dk_at dksX0_odds_2 15 rfl rfl)
theorem dX0_odds_64 : decode cX0_odds 64 = .ok (.iload_n 2, 1) := dk_28 (dk_at dksX0_odds_2 18 rfl rfl)
theorem dX0_odds_65 : decode cX0_odds 65 = .ok (.if_icmp .le 6, 3) := dk_164 0 6 (dk_at dksX0_odds_2 19 rfl rfl)
theorem dX0_odds_68 : decode cX0_odds 68 = .ok (.goto 37, 3) := dk_167 0 37 (dk_at dksX0_odds_3 0 rfl rfl)
theorem dX0_odds_71 : decode cX0_odds 71 = .ok (.iinc 5 1, 3) := dk_132 5 1 (dk_at dksX0_odds_3 3 rfl rfl)
theorem dX0_odds_74 : decode cX0_odds 74 = .ok (.iload 6, 2) := dk_21 6 (dk_at dksX0_odds_3 6 rfl rfl)
theorem dX0_odds_76 : decode cX0_odds 76 = .ok (.aload_n 0, 1) := dk_42 (dk_at dksX0_odds_3 8 rfl rfl)
theorem dX0_odds_77 : decode cX0_odds 77 = .ok (.getfield 20, 3) := dk_180 0 20 (dk_at dksX0_odds_3 9 rfl rfl)
theorem dX0_odds_80 : decode cX0_odds 80 = .ok (.getfield 124, 3) := dk_180 0 124 (dk_at dksX0_odds_3 12 rfl rfl)
theorem dX0_odds_83 : decode cX0_odds 83 = .ok (.aload_n 0, 1) := dk_42 (dk_at dksX0_odds_3 15 rfl rfl)
theorem dX0_odds_84 : decode cX0_odds 84 = .ok (.getfield 20, 3) := dk_180 0 20 (dk_at dksX0_odds_3 16 rfl rfl)
theorem dX0_odds_87 : decode cX0_odds 87 = .ok (.getfield 171, 3) := dk_180 0 171 (dk_at dksX0_odds_3 19 rfl rfl)
theorem dX0_odds_90 : decode cX0_odds 90 = .ok (.iload 7, 2) := dk_21 7 (dk_at dksX0_odds_3 22 rfl rfl)
theorem dX0_odds_92 : decode cX0_odds 92 = .ok (.iaload, 1) := dk_46 (dk_at dksX0_odds_4 0 rfl rfl)
theorem dX0_odds_93 : decode cX0_odds 93 = .ok (.iaload, 1) := dk_46 (dk_at dksX0_odds_4 1 rfl rfl)
theorem dX0_odds_94 : decode cX0_odds 94 = .ok (.ifCond .ne 7, 3) := dk_154 0 7 (dk_at dksX0_odds_4 2 rfl rfl)
theorem dX0_odds_97 : decode cX0_odds 97 = .ok (.iconst 1, 1) := dk_4 (dk_at dksX0_odds_4 5 rfl rfl)
theorem dX0_odds_98 : decode cX0_odds 98 = .ok (.goto 4, 3) := dk_167 0 4 (dk_at dksX0_odds_4 6 rfl rfl)
theorem dX0_odds_101 : decode cX0_odds 101 = .ok (.iconst 0, 1) := dk_3 (dk_at dksX0_odds_4 9 rfl rfl)
theorem dX0_odds_102 : decode cX0_odds 102 = .ok (.iadd, 1) := dk_96 (dk_at dksX0_odds_4 10 rfl rfl)
theorem dX0_odds_103 : decode cX0_odds 103 = .ok (.istore 6, 2) := dk_54 6 (dk_at dksX0_odds_4 11 rfl rfl)
theorem dX0_odds_105 : decode cX0_odds 105 = .ok (.iinc 7 1, 3) := dk_132 7 1 (dk_at dksX0_odds_4 13 rfl rfl)
theorem dX0_odds_108 : decode cX0_odds 108 = .ok (.goto (-69), 3) := dk_167 255 187 (dk_at dksX0_odds_4 16 rfl rfl)
theorem dX0_odds_111 : decode cX0_odds 111 = .ok (.iload 5, 2) := dk_21 5 (dk_at dksX0_odds_4 19 rfl rfl)
theorem dX0_odds_113 : decode cX0_odds 113 = .ok (.iload_n 3, 1) := dk_29 (dk_at dksX0_odds_4 21 rfl rfl)
theorem dX0_odds_114 : decode cX0_odds 114 = .ok (.if_icmp .ge 5, 3) := dk_162 0 5 (dk_at dksX0_odds_5 0 rfl rfl)
theorem dX0_odds_117 : decode cX0_odds 117 = .ok (.iconst (-1), 1) := dk_2 (dk_at dksX0_odds_5 3 rfl rfl)
theorem dX0_odds_118 : decode cX0_odds 118 = .ok (.ireturn, 1) := dk_172 (dk_at dksX0_odds_5 4 rfl rfl)
theorem dX0_odds_119 : decode cX0_odds 119 = .ok (.iload 6, 2) := dk_21 6 (dk_at dksX0_odds_5 5 rfl rfl)
theorem dX0_odds_121 : decode cX0_odds 121 = .ok (.iload_n 3, 1) := dk_29 (dk_at dksX0_odds_5 7 rfl rfl)
theorem dX0_odds_122 : decode cX0_odds 122 = .ok (.invokestatic 241, 3) := dk_184 0 241 (dk_at dksX0_odds_5 8 rfl rfl)
theorem dX0_odds_125 : decode cX0_odds 125 = .ok (.istore 7, 2) := dk_54 7 (dk_at dksX0_odds_5 11 rfl rfl)
theorem dX0_odds_127 : decode cX0_odds 127 = .ok (.iload 5, 2) := dk_21 5 (dk_at dksX0_odds_5 13 rfl rfl)
theorem dX0_odds_129 : decode cX0_odds 129 = .ok (.iload_n 3, 1) := dk_29 (dk_at dksX0_odds_5 15 rfl rfl)
theorem dX0_odds_130 : decode cX0_odds 130 = .ok (.invokestatic 241, 3) := dk_184 0 241 (dk_at dksX0_odds_5 16 rfl rfl)
theorem dX0_odds_133 : decode cX0_odds 133 = .ok (.istore 8, 2) := dk_54 8 (dk_at dksX0_odds_5 19 rfl rfl)
theorem dX0_odds_135 : decode cX0_odds 135 = .ok (.iload 7, 2) := dk_21 7 (dk_at dksX0_odds_5 21 rfl rfl)
theorem dX0_odds_137 : decode cX0_odds 137 = .ok (.iload 8, 2) := dk_21 8 (dk_at dksX0_odds_6 0 rfl rfl)
theorem dX0_odds_139 : decode cX0_odds 139 = .ok (.invokestatic 238, 3) := dk_184 0 238 (dk_at dksX0_odds_6 2 rfl rfl)
theorem dX0_odds_142 : decode cX0_odds 142 = .ok (.istore 9, 2) := dk_54 9 (dk_at dksX0_odds_6 5 rfl rfl)
theorem dX0_odds_144 : decode cX0_odds 144 = .ok (.iload 4, 2) := dk_21 4 (dk_at dksX0_odds_6 7 rfl rfl)
theorem dX0_odds_146 : decode cX0_odds 146 = .ok (.ifCond .ne 11, 3) := dk_154 0 11 (dk_at dksX0_odds_6 9 rfl rfl)
theorem dX0_odds_149 : decode cX0_odds 149 = .ok (.iload 7, 2) := dk_21 7 (dk_at dksX0_odds_6 12 rfl rfl)
theorem dX0_odds_151 : decode cX0_odds 151 = .ok (.iload 9, 2) := dk_21 9 (dk_at dksX0_odds_6 14 rfl rfl)
theorem dX0_odds_153 : decode cX0_odds 153 = .ok (.idiv, 1) := dk_108 (dk_at dksX0_odds_6 16 rfl rfl)
theorem dX0_odds_154 : decode cX0_odds 154 = .ok (.goto 8, 3) := dk_167 0 8 (dk_at dksX0_odds_6 17 rfl rfl)
theorem dX0_odds_157 : decode cX0_odds 157 = .ok (.iload 8, 2) := dk_21 8 (dk_at dksX0_odds_6 20 rfl rfl)
theorem dX0_odds_159 : decode cX0_odds 159 = .ok (.iload 9, 2) := dk_21 9 (dk_at dksX0_odds_6 22 rfl rfl)
theorem dX0_odds_161 : decode cX0_odds 161 = .ok (.idiv, 1) := dk_108 (dk_at dksX0_odds_7 0 rfl rfl)
theorem dX0_odds_162 : decode cX0_odds 162 = .ok (.ireturn, 1) := dk_172 (dk_at dksX0_odds_7 1 rfl rfl)
abbrev cX0_ways : ByteArray := prog_1_method_35_code
def yX0_ways : MethodName := ⟨RX0, "ways", "(II)I"⟩
def dkwX0_ways_1 : List UInt8 := [167, 255, 238, 26, 27, 162, 0, 7, 3, 167, 0, 4, 28, 172]
abbrev dktX0_ways_1 : List UInt8 := dkwX0_ways_1 ++ []
def dkwX0_ways_0 : List UInt8 := [4, 61, 3, 62, 29, 27, 162, 0, 19, 28, 26, 29, 100, 104, 29, 4, 96, 108, 61, 132, 3, 1]
abbrev dktX0_ways_0 : List UInt8 := dkwX0_ways_0 ++ dktX0_ways_1
theorem dksX0_ways_0 : cX0_ways.data.toList.drop 0 = dktX0_ways_0 := by decide +kernel
theorem dksX0_ways_1 : cX0_ways.data.toList.drop 22 = dktX0_ways_1 := dk_seg dksX0_ways_0 22 rfl rfl
theorem dX0_ways_0 : decode cX0_ways 0 = .ok (.iconst 1, 1) := dk_4 (dk_at dksX0_ways_0 0 rfl rfl)
theorem dX0_ways_1 : decode cX0_ways 1 = .ok (.istore_n 2, 1) := dk_61 (dk_at dksX0_ways_0 1 rfl rfl)
theorem dX0_ways_2 : decode cX0_ways 2 = .ok (.iconst 0, 1) := dk_3 (dk_at dksX0_ways_0 2 rfl rfl)
theorem dX0_ways_3 : decode cX0_ways 3 = .ok (.istore_n 3, 1) := dk_62 (dk_at dksX0_ways_0 3 rfl rfl)
theorem dX0_ways_4 : decode cX0_ways 4 = .ok (.iload_n 3, 1) := dk_29 (dk_at dksX0_ways_0 4 rfl rfl)
theorem dX0_ways_5 : decode cX0_ways 5 = .ok (.iload_n 1, 1) := dk_27 (dk_at dksX0_ways_0 5 rfl rfl)
theorem dX0_ways_6 : decode cX0_ways 6 = .ok (.if_icmp .ge 19, 3) := dk_162 0 19 (dk_at dksX0_ways_0 6 rfl rfl)
theorem dX0_ways_9 : decode cX0_ways 9 = .ok (.iload_n 2, 1) := dk_28 (dk_at dksX0_ways_0 9 rfl rfl)
theorem dX0_ways_10 : decode cX0_ways 10 = .ok (.iload_n 0, 1) := dk_26 (dk_at dksX0_ways_0 10 rfl rfl)
theorem dX0_ways_11 : decode cX0_ways 11 = .ok (.iload_n 3, 1) := dk_29 (dk_at dksX0_ways_0 11 rfl rfl)
theorem dX0_ways_12 : decode cX0_ways 12 = .ok (.isub, 1) := dk_100 (dk_at dksX0_ways_0 12 rfl rfl)
theorem dX0_ways_13 : decode cX0_ways 13 = .ok (.imul, 1) := dk_104 (dk_at dksX0_ways_0 13 rfl rfl)
theorem dX0_ways_14 : decode cX0_ways 14 = .ok (.iload_n 3, 1) := dk_29 (dk_at dksX0_ways_0 14 rfl rfl)
theorem dX0_ways_15 : decode cX0_ways 15 = .ok (.iconst 1, 1) := dk_4 (dk_at dksX0_ways_0 15 rfl rfl)
theorem dX0_ways_16 : decode cX0_ways 16 = .ok (.iadd, 1) := dk_96 (dk_at dksX0_ways_0 16 rfl rfl)
theorem dX0_ways_17 : decode cX0_ways 17 = .ok (.idiv, 1) := dk_108 (dk_at dksX0_ways_0 17 rfl rfl)
theorem dX0_ways_18 : decode cX0_ways 18 = .ok (.istore_n 2, 1) := dk_61 (dk_at dksX0_ways_0 18 rfl rfl)
theorem dX0_ways_19 : decode cX0_ways 19 = .ok (.iinc 3 1, 3) := dk_132 3 1 (dk_at dksX0_ways_0 19 rfl rfl)
theorem dX0_ways_22 : decode cX0_ways 22 = .ok (.goto (-18), 3) := dk_167 255 238 (dk_at dksX0_ways_1 0 rfl rfl)
theorem dX0_ways_25 : decode cX0_ways 25 = .ok (.iload_n 0, 1) := dk_26 (dk_at dksX0_ways_1 3 rfl rfl)
theorem dX0_ways_26 : decode cX0_ways 26 = .ok (.iload_n 1, 1) := dk_27 (dk_at dksX0_ways_1 4 rfl rfl)
theorem dX0_ways_27 : decode cX0_ways 27 = .ok (.if_icmp .ge 7, 3) := dk_162 0 7 (dk_at dksX0_ways_1 5 rfl rfl)
theorem dX0_ways_30 : decode cX0_ways 30 = .ok (.iconst 0, 1) := dk_3 (dk_at dksX0_ways_1 8 rfl rfl)
theorem dX0_ways_31 : decode cX0_ways 31 = .ok (.goto 4, 3) := dk_167 0 4 (dk_at dksX0_ways_1 9 rfl rfl)
theorem dX0_ways_34 : decode cX0_ways 34 = .ok (.iload_n 2, 1) := dk_28 (dk_at dksX0_ways_1 12 rfl rfl)
theorem dX0_ways_35 : decode cX0_ways 35 = .ok (.ireturn, 1) := dk_172 (dk_at dksX0_ways_1 13 rfl rfl)
abbrev cX0_common : ByteArray := prog_1_method_36_code
def yX0_common : MethodName := ⟨RX0, "common", "(II)I"⟩
def dkwX0_common_0 : List UInt8 := [27, 154, 0, 7, 26, 167, 0, 10, 27, 26, 27, 112, 184, 0, 238, 172]
abbrev dktX0_common_0 : List UInt8 := dkwX0_common_0 ++ []
theorem dksX0_common_0 : cX0_common.data.toList.drop 0 = dktX0_common_0 := by decide +kernel
theorem dX0_common_0 : decode cX0_common 0 = .ok (.iload_n 1, 1) := dk_27 (dk_at dksX0_common_0 0 rfl rfl)
theorem dX0_common_1 : decode cX0_common 1 = .ok (.ifCond .ne 7, 3) := dk_154 0 7 (dk_at dksX0_common_0 1 rfl rfl)
theorem dX0_common_4 : decode cX0_common 4 = .ok (.iload_n 0, 1) := dk_26 (dk_at dksX0_common_0 4 rfl rfl)
theorem dX0_common_5 : decode cX0_common 5 = .ok (.goto 10, 3) := dk_167 0 10 (dk_at dksX0_common_0 5 rfl rfl)
theorem dX0_common_8 : decode cX0_common 8 = .ok (.iload_n 1, 1) := dk_27 (dk_at dksX0_common_0 8 rfl rfl)
theorem dX0_common_9 : decode cX0_common 9 = .ok (.iload_n 0, 1) := dk_26 (dk_at dksX0_common_0 9 rfl rfl)
theorem dX0_common_10 : decode cX0_common 10 = .ok (.iload_n 1, 1) := dk_27 (dk_at dksX0_common_0 10 rfl rfl)
theorem dX0_common_11 : decode cX0_common 11 = .ok (.irem, 1) := dk_112 (dk_at dksX0_common_0 11 rfl rfl)
theorem dX0_common_12 : decode cX0_common 12 = .ok (.invokestatic 238, 3) := dk_184 0 238 (dk_at dksX0_common_0 12 rfl rfl)
theorem dX0_common_15 : decode cX0_common 15 = .ok (.ireturn, 1) := dk_172 (dk_at dksX0_common_0 15 rfl rfl)
abbrev cX0_grove : ByteArray := prog_1_method_39_code
def yX0_grove : MethodName := ⟨RX0, "grove", "(II)I"⟩
def dkwX0_grove_4 : List UInt8 := [21, 4, 172]
abbrev dktX0_grove_4 : List UInt8 := dkwX0_grove_4 ++ []
def dkwX0_grove_3 : List UInt8 := [42, 21, 5, 27, 182, 0, 244, 54, 4, 132, 5, 1, 167, 255, 207, 28, 154, 0, 7, 29, 167, 0, 5]
abbrev dktX0_grove_3 : List UInt8 := dkwX0_grove_3 ++ dktX0_grove_4
def dkwX0_grove_2 : List UInt8 := [182, 0, 114, 153, 0, 30, 42, 21, 5, 27, 182, 0, 244, 21, 4, 163, 0, 6, 167, 0, 15, 21, 5, 62]
abbrev dktX0_grove_2 : List UInt8 := dkwX0_grove_2 ++ dktX0_grove_3
def dkwX0_grove_1 : List UInt8 := [3, 27, 182, 0, 244, 54, 4, 4, 54, 5, 21, 5, 16, 64, 162, 0, 48, 42, 180, 0, 20, 21, 5]
abbrev dktX0_grove_1 : List UInt8 := dkwX0_grove_1 ++ dktX0_grove_2
def dkwX0_grove_0 : List UInt8 := [27, 3, 16, 14, 184, 0, 50, 153, 0, 12, 28, 3, 4, 184, 0, 50, 154, 0, 5, 2, 172, 3, 62, 42]
abbrev dktX0_grove_0 : List UInt8 := dkwX0_grove_0 ++ dktX0_grove_1
theorem dksX0_grove_0 : cX0_grove.data.toList.drop 0 = dktX0_grove_0 := by decide +kernel
theorem dksX0_grove_1 : cX0_grove.data.toList.drop 24 = dktX0_grove_1 := dk_seg dksX0_grove_0 24 rfl rfl
theorem dksX0_grove_2 : cX0_grove.data.toList.drop 47 = dktX0_grove_2 := dk_seg dksX0_grove_1 23 rfl rfl
theorem dksX0_grove_3 : cX0_grove.data.toList.drop 71 = dktX0_grove_3 := dk_seg dksX0_grove_2 24 rfl rfl
theorem dksX0_grove_4 : cX0_grove.data.toList.drop 94 = dktX0_grove_4 := dk_seg dksX0_grove_3 23 rfl rfl
theorem dX0_grove_0 : decode cX0_grove 0 = .ok (.iload_n 1, 1) := dk_27 (dk_at dksX0_grove_0 0 rfl rfl)
theorem dX0_grove_1 : decode cX0_grove 1 = .ok (.iconst 0, 1) := dk_3 (dk_at dksX0_grove_0 1 rfl rfl)
theorem dX0_grove_2 : decode cX0_grove 2 = .ok (.bipush 14, 2) := dk_16 14 (dk_at dksX0_grove_0 2 rfl rfl)
theorem dX0_grove_4 : decode cX0_grove 4 = .ok (.invokestatic 50, 3) := dk_184 0 50 (dk_at dksX0_grove_0 4 rfl rfl)
theorem dX0_grove_7 : decode cX0_grove 7 = .ok (.ifCond .eq 12, 3) := dk_153 0 12 (dk_at dksX0_grove_0 7 rfl rfl)
theorem dX0_grove_10 : decode cX0_grove 10 = .ok (.iload_n 2, 1) := dk_28 (dk_at dksX0_grove_0 10 rfl rfl)
theorem dX0_grove_11 : decode cX0_grove 11 = .ok (.iconst 0, 1) := dk_3 (dk_at dksX0_grove_0 11 rfl rfl)
theorem dX0_grove_12 : decode cX0_grove 12 = .ok (.iconst 1, 1) := dk_4 (dk_at dksX0_grove_0 12 rfl rfl)
theorem dX0_grove_13 : decode cX0_grove 13 = .ok (.invokestatic 50, 3) := dk_184 0 50 (dk_at dksX0_grove_0 13 rfl rfl)
theorem dX0_grove_16 : decode cX0_grove 16 = .ok (.ifCond .ne 5, 3) := dk_154 0 5 (dk_at dksX0_grove_0 16 rfl rfl)
theorem dX0_grove_19 : decode cX0_grove 19 = .ok (.iconst (-1), 1) := dk_2 (dk_at dksX0_grove_0 19 rfl rfl)
theorem dX0_grove_20 : decode cX0_grove 20 = .ok (.ireturn, 1) := dk_172 (dk_at dksX0_grove_0 20 rfl rfl)
theorem dX0_grove_21 : decode cX0_grove 21 = .ok (.iconst 0, 1) := dk_3 (dk_at dksX0_grove_0 21 rfl rfl)
theorem dX0_grove_22 : decode cX0_grove 22 = .ok (.istore_n 3, 1) := dk_62 (dk_at dksX0_grove_0 22 rfl rfl)
theorem dX0_grove_23 : decode cX0_grove 23 = .ok (.aload_n 0, 1) := dk_42 (dk_at dksX0_grove_0 23 rfl rfl)
theorem dX0_grove_24 : decode cX0_grove 24 = .ok (.iconst 0, 1) := dk_3 (dk_at dksX0_grove_1 0 rfl rfl)
theorem dX0_grove_25 : decode cX0_grove 25 = .ok (.iload_n 1, 1) := dk_27 (dk_at dksX0_grove_1 1 rfl rfl)
theorem dX0_grove_26 : decode cX0_grove 26 = .ok (.invokevirtual 244, 3) := dk_182 0 244 (dk_at dksX0_grove_1 2 rfl rfl)
theorem dX0_grove_29 : decode cX0_grove 29 = .ok (.istore 4, 2) := dk_54 4 (dk_at dksX0_grove_1 5 rfl rfl)
theorem dX0_grove_31 : decode cX0_grove 31 = .ok (.iconst 1, 1) := dk_4 (dk_at dksX0_grove_1 7 rfl rfl)
theorem dX0_grove_32 : decode cX0_grove 32 = .ok (.istore 5, 2) := dk_54 5 (dk_at dksX0_grove_1 8 rfl rfl)
theorem dX0_grove_34 : decode cX0_grove 34 = .ok (.iload 5, 2) := dk_21 5 (dk_at dksX0_grove_1 10 rfl rfl)
theorem dX0_grove_36 : decode cX0_grove 36 = .ok (.bipush 64, 2) := dk_16 64 (dk_at dksX0_grove_1 12 rfl rfl)
theorem dX0_grove_38 : decode cX0_grove 38 = .ok (.if_icmp .ge 48, 3) := dk_162 0 48 (dk_at dksX0_grove_1 14 rfl rfl)
theorem dX0_grove_41 : decode cX0_grove 41 = .ok (.aload_n 0, 1) := dk_42 (dk_at dksX0_grove_1 17 rfl rfl)
theorem dX0_grove_42 : decode cX0_grove 42 = .ok (.getfield 20, 3) := dk_180 0 20 (dk_at dksX0_grove_1 18 rfl rfl)
theorem dX0_grove_45 : decode cX0_grove 45 = .ok (.iload 5, 2) := dk_21 5 (dk_at dksX0_grove_1 21 rfl rfl)
theorem dX0_grove_47 : decode cX0_grove 47 = .ok (.invokevirtual 114, 3) := dk_182 0 114 (dk_at dksX0_grove_2 0 rfl rfl)
theorem dX0_grove_50 : decode cX0_grove 50 = .ok (.ifCond .eq 30, 3) := dk_153 0 30 (dk_at dksX0_grove_2 3 rfl rfl)
theorem dX0_grove_53 : decode cX0_grove 53 = .ok (.aload_n 0, 1) := dk_42 (dk_at dksX0_grove_2 6 rfl rfl)
theorem dX0_grove_54 : decode cX0_grove 54 = .ok (.iload 5, 2) := dk_21 5 (dk_at dksX0_grove_2 7 rfl rfl)
theorem dX0_grove_56 : decode cX0_grove 56 = .ok (.iload_n 1, 1) := dk_27 (dk_at dksX0_grove_2 9 rfl rfl)
theorem dX0_grove_57 : decode cX0_grove 57 = .ok (.invokevirtual 244, 3) := dk_182 0 244 (dk_at dksX0_grove_2 10 rfl rfl)
theorem dX0_grove_60 : decode cX0_grove 60 = .ok (.iload 4, 2) := dk_21 4 (dk_at dksX0_grove_2 13 rfl rfl)
theorem dX0_grove_62 : decode cX0_grove 62 = .ok (.if_icmp .gt 6, 3) := dk_163 0 6 (dk_at dksX0_grove_2 15 rfl rfl)
theorem dX0_grove_65 : decode cX0_grove 65 = .ok (.goto 15, 3) := dk_167 0 15 (dk_at dksX0_grove_2 18 rfl rfl)
theorem dX0_grove_68 : decode cX0_grove 68 = .ok (.iload 5, 2) := dk_21 5 (dk_at dksX0_grove_2 21 rfl rfl)
theorem dX0_grove_70 : decode cX0_grove 70 = .ok (.istore_n 3, 1) := dk_62 (dk_at dksX0_grove_2 23 rfl rfl)
theorem dX0_grove_71 : decode cX0_grove 71 = .ok (.aload_n 0, 1) := dk_42 (dk_at dksX0_grove_3 0 rfl rfl)
theorem dX0_grove_72 : decode cX0_grove 72 = .ok (.iload 5, 2) := dk_21 5 (dk_at dksX0_grove_3 1 rfl rfl)
theorem dX0_grove_74 : decode cX0_grove 74 = .ok (.iload_n 1, 1) := dk_27 (dk_at dksX0_grove_3 3 rfl rfl)
theorem dX0_grove_75 : decode cX0_grove 75 = .ok (.invokevirtual 244, 3) := dk_182 0 244 (dk_at dksX0_grove_3 4 rfl rfl)
theorem dX0_grove_78 : decode cX0_grove 78 = .ok (.istore 4, 2) := dk_54 4 (dk_at dksX0_grove_3 7 rfl rfl)
theorem dX0_grove_80 : decode cX0_grove 80 = .ok (.iinc 5 1, 3) := dk_132 5 1 (dk_at dksX0_grove_3 9 rfl rfl)
theorem dX0_grove_83 : decode cX0_grove 83 = .ok (.goto (-49), 3) := dk_167 255 207 (dk_at dksX0_grove_3 12 rfl rfl)
theorem dX0_grove_86 : decode cX0_grove 86 = .ok (.iload_n 2, 1) := dk_28 (dk_at dksX0_grove_3 15 rfl rfl)
theorem dX0_grove_87 : decode cX0_grove 87 = .ok (.ifCond .ne 7, 3) := dk_154 0 7 (dk_at dksX0_grove_3 16 rfl rfl)
theorem dX0_grove_90 : decode cX0_grove 90 = .ok (.iload_n 3, 1) := dk_29 (dk_at dksX0_grove_3 19 rfl rfl)
theorem dX0_grove_91 : decode cX0_grove 91 = .ok (.goto 5, 3) := dk_167 0 5 (dk_at dksX0_grove_3 20 rfl rfl)
theorem dX0_grove_94 : decode cX0_grove 94 = .ok (.iload 4, 2) := dk_21 4 (dk_at dksX0_grove_4 0 rfl rfl)
theorem dX0_grove_96 : decode cX0_grove 96 = .ok (.ireturn, 1) := dk_172 (dk_at dksX0_grove_4 2 rfl rfl)
abbrev cX0_around : ByteArray := prog_1_method_38_code
def yX0_around : MethodName := ⟨RX0, "around", "(II)I"⟩
def dkwX0_around_3 : List UInt8 := [167, 255, 192, 29, 172]
abbrev dktX0_around_3 : List UInt8 := dkwX0_around_3 ++ []
def dkwX0_around_2 : List UInt8 := [180, 0, 20, 180, 0, 121, 42, 180, 0, 20, 180, 0, 171, 21, 4, 46, 46, 104, 96, 62, 132, 4, 1]
abbrev dktX0_around_2 : List UInt8 := dkwX0_around_2 ++ dktX0_around_3
def dkwX0_around_1 : List UInt8 := [21, 4, 27, 184, 0, 220, 28, 163, 0, 35, 29, 42, 180, 0, 20, 180, 0, 173, 21, 4, 46, 42]
abbrev dktX0_around_1 : List UInt8 := dkwX0_around_1 ++ dktX0_around_2
def dkwX0_around_0 : List UInt8 := [3, 62, 3, 54, 4, 21, 4, 16, 64, 162, 0, 63, 42, 180, 0, 20, 21, 4, 182, 0, 168, 153, 0, 45]
abbrev dktX0_around_0 : List UInt8 := dkwX0_around_0 ++ dktX0_around_1
theorem dksX0_around_0 : cX0_around.data.toList.drop 0 = dktX0_around_0 := by decide +kernel
theorem dksX0_around_1 : cX0_around.data.toList.drop 24 = dktX0_around_1 := dk_seg dksX0_around_0 24 rfl rfl
theorem dksX0_around_2 : cX0_around.data.toList.drop 46 = dktX0_around_2 := dk_seg dksX0_around_1 22 rfl rfl
theorem dksX0_around_3 : cX0_around.data.toList.drop 69 = dktX0_around_3 := dk_seg dksX0_around_2 23 rfl rfl
theorem dX0_around_0 : decode cX0_around 0 = .ok (.iconst 0, 1) := dk_3 (dk_at dksX0_around_0 0 rfl rfl)
theorem dX0_around_1 : decode cX0_around 1 = .ok (.istore_n 3, 1) := dk_62 (dk_at dksX0_around_0 1 rfl rfl)
theorem dX0_around_2 : decode cX0_around 2 = .ok (.iconst 0, 1) := dk_3 (dk_at dksX0_around_0 2 rfl rfl)
theorem dX0_around_3 : decode cX0_around 3 = .ok (.istore 4, 2) := dk_54 4 (dk_at dksX0_around_0 3 rfl rfl)
theorem dX0_around_5 : decode cX0_around 5 = .ok (.iload 4, 2) := dk_21 4 (dk_at dksX0_around_0 5 rfl rfl)
theorem dX0_around_7 : decode cX0_around 7 = .ok (.bipush 64, 2) := dk_16 64 (dk_at dksX0_around_0 7 rfl rfl)
theorem dX0_around_9 : decode cX0_around 9 = .ok (.if_icmp .ge 63, 3) := dk_162 0 63 (dk_at dksX0_around_0 9 rfl rfl)
theorem dX0_around_12 : decode cX0_around 12 = .ok (.aload_n 0, 1) := dk_42 (dk_at dksX0_around_0 12 rfl rfl)
theorem dX0_around_13 : decode cX0_around 13 = .ok (.getfield 20, 3) := dk_180 0 20 (dk_at dksX0_around_0 13 rfl rfl)
theorem dX0_around_16 : decode cX0_around 16 = .ok (.iload 4, 2) := dk_21 4 (dk_at dksX0_around_0 16 rfl rfl)
theorem dX0_around_18 : decode cX0_around 18 = .ok (.invokevirtual 168, 3) := dk_182 0 168 (dk_at dksX0_around_0 18 rfl rfl)
theorem dX0_around_21 : decode cX0_around 21 = .ok (.ifCond .eq 45, 3) := dk_153 0 45 (dk_at dksX0_around_0 21 rfl rfl)
theorem dX0_around_24 : decode cX0_around 24 = .ok (.iload 4, 2) := dk_21 4 (dk_at dksX0_around_1 0 rfl rfl)
theorem dX0_around_26 : decode cX0_around 26 = .ok (.iload_n 1, 1) := dk_27 (dk_at dksX0_around_1 2 rfl rfl)
theorem dX0_around_27 : decode cX0_around 27 = .ok (.invokestatic 220, 3) := dk_184 0 220 (dk_at dksX0_around_1 3 rfl rfl)
theorem dX0_around_30 : decode cX0_around 30 = .ok (.iload_n 2, 1) := dk_28 (dk_at dksX0_around_1 6 rfl rfl)
theorem dX0_around_31 : decode cX0_around 31 = .ok (.if_icmp .gt 35, 3) := dk_163 0 35 (dk_at dksX0_around_1 7 rfl rfl)
theorem dX0_around_34 : decode cX0_around 34 = .ok (.iload_n 3, 1) := dk_29 (dk_at dksX0_around_1 10 rfl rfl)
theorem dX0_around_35 : decode cX0_around 35 = .ok (.aload_n 0, 1) := dk_42 (dk_at dksX0_around_1 11 rfl rfl)
theorem dX0_around_36 : decode cX0_around 36 = .ok (.getfield 20, 3) := dk_180 0 20 (dk_at dksX0_around_1 12 rfl rfl)
theorem dX0_around_39 : decode cX0_around 39 = .ok (.getfield 173, 3) := dk_180 0 173 (dk_at dksX0_around_1 15 rfl rfl)
theorem dX0_around_42 : decode cX0_around 42 = .ok (.iload 4, 2) := dk_21 4 (dk_at dksX0_around_1 18 rfl rfl)
theorem dX0_around_44 : decode cX0_around 44 = .ok (.iaload, 1) := dk_46 (dk_at dksX0_around_1 20 rfl rfl)
theorem dX0_around_45 : decode cX0_around 45 = .ok (.aload_n 0, 1) := dk_42 (dk_at dksX0_around_1 21 rfl rfl)
theorem dX0_around_46 : decode cX0_around 46 = .ok (.getfield 20, 3) := dk_180 0 20 (dk_at dksX0_around_2 0 rfl rfl)
theorem dX0_around_49 : decode cX0_around 49 = .ok (.getfield 121, 3) := dk_180 0 121 (dk_at dksX0_around_2 3 rfl rfl)
theorem dX0_around_52 : decode cX0_around 52 = .ok (.aload_n 0, 1) := dk_42 (dk_at dksX0_around_2 6 rfl rfl)
theorem dX0_around_53 : decode cX0_around 53 = .ok (.getfield 20, 3) := dk_180 0 20 (dk_at dksX0_around_2 7 rfl rfl)
theorem dX0_around_56 : decode cX0_around 56 = .ok (.getfield 171, 3) := dk_180 0 171 (dk_at dksX0_around_2 10 rfl rfl)
theorem dX0_around_59 : decode cX0_around 59 = .ok (.iload 4, 2) := dk_21 4 (dk_at dksX0_around_2 13 rfl rfl)
theorem dX0_around_61 : decode cX0_around 61 = .ok (.iaload, 1) := dk_46 (dk_at dksX0_around_2 15 rfl rfl)
theorem dX0_around_62 : decode cX0_around 62 = .ok (.iaload, 1) := dk_46 (dk_at dksX0_around_2 16 rfl rfl)
theorem dX0_around_63 : decode cX0_around 63 = .ok (.imul, 1) := dk_104 (dk_at dksX0_around_2 17 rfl rfl)
theorem dX0_around_64 : decode cX0_around 64 = .ok (.iadd, 1) := dk_96 (dk_at dksX0_around_2 18 rfl rfl)
theorem dX0_around_65 : decode cX0_around 65 = .ok (.istore_n 3, 1) := dk_62 (dk_at dksX0_around_2 19 rfl rfl)
theorem dX0_around_66 : decode cX0_around 66 = .ok (.iinc 4 1, 3) := dk_132 4 1 (dk_at dksX0_around_2 20 rfl rfl)
theorem dX0_around_69 : decode cX0_around 69 = .ok (.goto (-64), 3) := dk_167 255 192 (dk_at dksX0_around_3 0 rfl rfl)
theorem dX0_around_72 : decode cX0_around 72 = .ok (.iload_n 3, 1) := dk_29 (dk_at dksX0_around_3 3 rfl rfl)
theorem dX0_around_73 : decode cX0_around 73 = .ok (.ireturn, 1) := dk_172 (dk_at dksX0_around_3 4 rfl rfl)
abbrev cX0_engaged : ByteArray := prog_1_method_41_code
def yX0_engaged : MethodName := ⟨RX0, "engaged", "(I)I"⟩
def dkwX0_engaged_5 : List UInt8 := [27, 154, 0, 7, 28, 167, 0, 14, 27, 4, 160, 0, 7, 29, 167, 0, 5, 21, 4, 172]
abbrev dktX0_engaged_5 : List UInt8 := dkwX0_engaged_5 ++ []
def dkwX0_engaged_4 : List UInt8 := [21, 6, 167, 0, 5, 21, 4, 54, 4, 132, 2, 1, 132, 6, 1, 167, 255, 181, 132, 5, 1, 167, 255, 162]
abbrev dktX0_engaged_4 : List UInt8 := dkwX0_engaged_4 ++ dktX0_engaged_5
def dkwX0_engaged_3 : List UInt8 := [182, 0, 247, 154, 0, 6, 167, 0, 30, 28, 154, 0, 8, 21, 5, 167, 0, 4, 29, 62, 28, 154, 0, 8]
abbrev dktX0_engaged_3 : List UInt8 := dkwX0_engaged_3 ++ dktX0_engaged_4
def dkwX0_engaged_2 : List UInt8 := [182, 0, 168, 153, 0, 56, 42, 180, 0, 20, 21, 6, 182, 0, 168, 153, 0, 44, 42, 21, 5, 21, 6]
abbrev dktX0_engaged_2 : List UInt8 := dkwX0_engaged_2 ++ dktX0_engaged_3
def dkwX0_engaged_1 : List UInt8 := [16, 64, 162, 0, 93, 21, 5, 4, 96, 54, 6, 21, 6, 16, 64, 162, 0, 74, 42, 180, 0, 20, 21, 5]
abbrev dktX0_engaged_1 : List UInt8 := dkwX0_engaged_1 ++ dktX0_engaged_2
def dkwX0_engaged_0 : List UInt8 := [27, 3, 5, 184, 0, 50, 154, 0, 5, 2, 172, 3, 61, 2, 62, 2, 54, 4, 3, 54, 5, 21, 5]
abbrev dktX0_engaged_0 : List UInt8 := dkwX0_engaged_0 ++ dktX0_engaged_1
theorem dksX0_engaged_0 : cX0_engaged.data.toList.drop 0 = dktX0_engaged_0 := by decide +kernel
theorem dksX0_engaged_1 : cX0_engaged.data.toList.drop 23 = dktX0_engaged_1 := dk_seg dksX0_engaged_0 23 rfl rfl
theorem dksX0_engaged_2 : cX0_engaged.data.toList.drop 47 = dktX0_engaged_2 := dk_seg dksX0_engaged_1 24 rfl rfl
theorem dksX0_engaged_3 : cX0_engaged.data.toList.drop 70 = dktX0_engaged_3 := dk_seg dksX0_engaged_2 23 rfl rfl
theorem dksX0_engaged_4 : cX0_engaged.data.toList.drop 94 = dktX0_engaged_4 := dk_seg dksX0_engaged_3 24 rfl rfl
theorem dksX0_engaged_5 : cX0_engaged.data.toList.drop 118 = dktX0_engaged_5 := dk_seg dksX0_engaged_4 24 rfl rfl
theorem dX0_engaged_0 : decode cX0_engaged 0 = .ok (.iload_n 1, 1) := dk_27 (dk_at dksX0_engaged_0 0 rfl rfl)
theorem dX0_engaged_1 : decode cX0_engaged 1 = .ok (.iconst 0, 1) := dk_3 (dk_at dksX0_engaged_0 1 rfl rfl)
theorem dX0_engaged_2 : decode cX0_engaged 2 = .ok (.iconst 2, 1) := dk_5 (dk_at dksX0_engaged_0 2 rfl rfl)
theorem dX0_engaged_3 : decode cX0_engaged 3 = .ok (.invokestatic 50, 3) := dk_184 0 50 (dk_at dksX0_engaged_0 3 rfl rfl)
theorem dX0_engaged_6 : decode cX0_engaged 6 = .ok (.ifCond .ne 5, 3) := dk_154 0 5 (dk_at dksX0_engaged_0 6 rfl rfl)
theorem dX0_engaged_9 : decode cX0_engaged 9 = .ok (.iconst (-1), 1) := dk_2 (dk_at dksX0_engaged_0 9 rfl rfl)
theorem dX0_engaged_10 : decode cX0_engaged 10 = .ok (.ireturn, 1) := dk_172 (dk_at dksX0_engaged_0 10 rfl rfl)
theorem dX0_engaged_11 : decode cX0_engaged 11 = .ok (.iconst 0, 1) := dk_3 (dk_at dksX0_engaged_0 11 rfl rfl)
theorem dX0_engaged_12 : decode cX0_engaged 12 = .ok (.istore_n 2, 1) := dk_61 (dk_at dksX0_engaged_0 12 rfl rfl)
theorem dX0_engaged_13 : decode cX0_engaged 13 = .ok (.iconst (-1), 1) := dk_2 (dk_at dksX0_engaged_0 13 rfl rfl)
theorem dX0_engaged_14 : decode cX0_engaged 14 = .ok (.istore_n 3, 1) := dk_62 (dk_at dksX0_engaged_0 14 rfl rfl)
theorem dX0_engaged_15 : decode cX0_engaged 15 = .ok (.iconst (-1), 1) := dk_2 (dk_at dksX0_engaged_0 15 rfl rfl)
theorem dX0_engaged_16 : decode cX0_engaged 16 = .ok (.istore 4, 2) := dk_54 4 (dk_at dksX0_engaged_0 16 rfl rfl)
theorem dX0_engaged_18 : decode cX0_engaged 18 = .ok (.iconst 0, 1) := dk_3 (dk_at dksX0_engaged_0 18 rfl rfl)
theorem dX0_engaged_19 : decode cX0_engaged 19 = .ok (.istore 5, 2) := dk_54 5 (dk_at dksX0_engaged_0 19 rfl rfl)
theorem dX0_engaged_21 : decode cX0_engaged 21 = .ok (.iload 5, 2) := dk_21 5 (dk_at dksX0_engaged_0 21 rfl rfl)
theorem dX0_engaged_23 : decode cX0_engaged 23 = .ok (.bipush 64, 2) := dk_16 64 (dk_at dksX0_engaged_1 0 rfl rfl)
theorem dX0_engaged_25 : decode cX0_engaged 25 = .ok (.if_icmp .ge 93, 3) := dk_162 0 93 (dk_at dksX0_engaged_1 2 rfl rfl)
theorem dX0_engaged_28 : decode cX0_engaged 28 = .ok (.iload 5, 2) := dk_21 5 (dk_at dksX0_engaged_1 5 rfl rfl)
theorem dX0_engaged_30 : decode cX0_engaged 30 = .ok (.iconst 1, 1) := dk_4 (dk_at dksX0_engaged_1 7 rfl rfl)
theorem dX0_engaged_31 : decode cX0_engaged 31 = .ok (.iadd, 1) := dk_96 (dk_at dksX0_engaged_1 8 rfl rfl)
theorem dX0_engaged_32 : decode cX0_engaged 32 = .ok (.istore 6, 2) := dk_54 6 (dk_at dksX0_engaged_1 9 rfl rfl)
theorem dX0_engaged_34 : decode cX0_engaged 34 = .ok (.iload 6, 2) := dk_21 6 (dk_at dksX0_engaged_1 11 rfl rfl)
theorem dX0_engaged_36 : decode cX0_engaged 36 = .ok (.bipush 64, 2) := dk_16 64 (dk_at dksX0_engaged_1 13 rfl rfl)
theorem dX0_engaged_38 : decode cX0_engaged 38 = .ok (.if_icmp .ge 74, 3) := dk_162 0 74 (dk_at dksX0_engaged_1 15 rfl rfl)
theorem dX0_engaged_41 : decode cX0_engaged 41 = .ok (.aload_n 0, 1) := dk_42 (dk_at dksX0_engaged_1 18 rfl rfl)
theorem dX0_engaged_42 : decode cX0_engaged 42 = .ok (.getfield 20, 3) := dk_180 0 20 (dk_at dksX0_engaged_1 19 rfl rfl)
theorem dX0_engaged_45 : decode cX0_engaged 45 = .ok (.iload 5, 2) := dk_21 5 (dk_at dksX0_engaged_1 22 rfl rfl)
theorem dX0_engaged_47 : decode cX0_engaged 47 = .ok (.invokevirtual 168, 3) := dk_182 0 168 (dk_at dksX0_engaged_2 0 rfl rfl)
theorem dX0_engaged_50 : decode cX0_engaged 50 = .ok (.ifCond .eq 56, 3) := dk_153 0 56 (dk_at dksX0_engaged_2 3 rfl rfl)
theorem dX0_engaged_53 : decode cX0_engaged 53 = .ok (.aload_n 0, 1) := dk_42 (dk_at dksX0_engaged_2 6 rfl rfl)
theorem dX0_engaged_54 : decode cX0_engaged 54 = .ok (.getfield 20, 3) := dk_180 0 20 (dk_at dksX0_engaged_2 7 rfl rfl)
theorem dX0_engaged_57 : decode cX0_engaged 57 = .ok (.iload 6, 2) := dk_21 6 (dk_at dksX0_engaged_2 10 rfl rfl)
theorem dX0_engaged_59 : decode cX0_engaged 59 = .ok (.invokevirtual 168, 3) := dk_182 0 168 (dk_at dksX0_engaged_2 12 rfl rfl)
theorem dX0_engaged_62 : decode cX0_engaged 62 = .ok (.ifCond .eq 44, 3) := dk_153 0 44 (dk_at dksX0_engaged_2 15 rfl rfl)
theorem dX0_engaged_65 : decode cX0_engaged 65 = .ok (.aload_n 0, 1) := dk_42 (dk_at dksX0_engaged_2 18 rfl rfl)
theorem dX0_engaged_66 : decode cX0_engaged 66 = .ok (.iload 5, 2) := dk_21 5 (dk_at dksX0_engaged_2 19 rfl rfl)
theorem dX0_engaged_68 : decode cX0_engaged 68 = .ok (.iload 6, 2) := dk_21 6 (dk_at dksX0_engaged_2 21 rfl rfl)
theorem dX0_engaged_70 : decode cX0_engaged 70 = .ok (.invokevirtual 247, 3) := dk_182 0 247 (dk_at dksX0_engaged_3 0 rfl rfl)
theorem dX0_engaged_73 : decode cX0_engaged 73 = .ok (.ifCond .ne 6, 3) := dk_154 0 6 (dk_at dksX0_engaged_3 3 rfl rfl)
theorem dX0_engaged_76 : decode cX0_engaged 76 = .ok (.goto 30, 3) := dk_167 0 30 (dk_at dksX0_engaged_3 6 rfl rfl)
theorem dX0_engaged_79 : decode cX0_engaged 79 = .ok (.iload_n 2, 1) := dk_28 (dk_at dksX0_engaged_3 9 rfl rfl)
theorem dX0_engaged_80 : decode cX0_engaged 80 = .ok (.ifCond .ne 8, 3) := dk_154 0 8 (dk_at dksX0_engaged_3 10 rfl rfl)
theorem dX0_engaged_83 : decode cX0_engaged 83 = .ok (.iload 5, 2) := dk_21 5 (dk_at dksX0_engaged_3 13 rfl rfl)
theorem dX0_engaged_85 : decode cX0_engaged 85 = .ok (.goto 4, 3) := dk_167 0 4 (dk_at dksX0_engaged_3 15 rfl rfl)
theorem dX0_engaged_88 : decode cX0_engaged 88 = .ok (.iload_n 3, 1) := dk_29 (dk_at dksX0_engaged_3 18 rfl rfl)
theorem dX0_engaged_89 : decode cX0_engaged 89 = .ok (.istore_n 3, 1) := dk_62 (dk_at dksX0_engaged_3 19 rfl rfl)
theorem dX0_engaged_90 : decode cX0_engaged 90 = .ok (.iload_n 2, 1) := dk_28 (dk_at dksX0_engaged_3 20 rfl rfl)
theorem dX0_engaged_91 : decode cX0_engaged 91 = .ok (.ifCond .ne 8, 3) := dk_154 0 8 (dk_at dksX0_engaged_3 21 rfl rfl)
theorem dX0_engaged_94 : decode cX0_engaged 94 = .ok (.iload 6, 2) := dk_21 6 (dk_at dksX0_engaged_4 0 rfl rfl)
theorem dX0_engaged_96 : decode cX0_engaged 96 = .ok (.goto 5, 3) := dk_167 0 5 (dk_at dksX0_engaged_4 2 rfl rfl)
theorem dX0_engaged_99 : decode cX0_engaged 99 = .ok (.iload 4, 2) := dk_21 4 (dk_at dksX0_engaged_4 5 rfl rfl)
theorem dX0_engaged_101 : decode cX0_engaged 101 = .ok (.istore 4, 2) := dk_54 4 (dk_at dksX0_engaged_4 7 rfl rfl)
theorem dX0_engaged_103 : decode cX0_engaged 103 = .ok (.iinc 2 1, 3) := dk_132 2 1 (dk_at dksX0_engaged_4 9 rfl rfl)
theorem dX0_engaged_106 : decode cX0_engaged 106 = .ok (.iinc 6 1, 3) := dk_132 6 1 (dk_at dksX0_engaged_4 12 rfl rfl)
theorem dX0_engaged_109 : decode cX0_engaged 109 = .ok (.goto (-75), 3) := dk_167 255 181 (dk_at dksX0_engaged_4 15 rfl rfl)
theorem dX0_engaged_112 : decode cX0_engaged 112 = .ok (.iinc 5 1, 3) := dk_132 5 1 (dk_at dksX0_engaged_4 18 rfl rfl)
theorem dX0_engaged_115 : decode cX0_engaged 115 = .ok (.goto (-94), 3) := dk_167 255 162 (dk_at dksX0_engaged_4 21 rfl rfl)
theorem dX0_engaged_118 : decode cX0_engaged 118 = .ok (.iload_n 1, 1) := dk_27 (dk_at dksX0_engaged_5 0 rfl rfl)
theorem dX0_engaged_119 : decode cX0_engaged 119 = .ok (.ifCond .ne 7, 3) := dk_154 0 7 (dk_at dksX0_engaged_5 1 rfl rfl)
theorem dX0_engaged_122 : decode cX0_engaged 122 = .ok (.iload_n 2, 1) := dk_28 (dk_at dksX0_engaged_5 4 rfl rfl)
theorem dX0_engaged_123 : decode cX0_engaged 123 = .ok (.goto 14, 3) := dk_167 0 14 (dk_at dksX0_engaged_5 5 rfl rfl)
theorem dX0_engaged_126 : decode cX0_engaged 126 = .ok (.iload_n 1, 1) := dk_27 (dk_at dksX0_engaged_5 8 rfl rfl)
theorem dX0_engaged_127 : decode cX0_engaged 127 = .ok (.iconst 1, 1) := dk_4 (dk_at dksX0_engaged_5 9 rfl rfl)
theorem dX0_engaged_128 : decode cX0_engaged 128 = .ok (.if_icmp .ne 7, 3) := dk_160 0 7 (dk_at dksX0_engaged_5 10 rfl rfl)
theorem dX0_engaged_131 : decode cX0_engaged 131 = .ok (.iload_n 3, 1) := dk_29 (dk_at dksX0_engaged_5 13 rfl rfl)
theorem dX0_engaged_132 : decode cX0_engaged 132 = .ok (.goto 5, 3) := dk_167 0 5 (dk_at dksX0_engaged_5 14 rfl rfl)
theorem dX0_engaged_135 : decode cX0_engaged 135 = .ok (.iload 4, 2) := dk_21 4 (dk_at dksX0_engaged_5 17 rfl rfl)
theorem dX0_engaged_137 : decode cX0_engaged 137 = .ok (.ireturn, 1) := dk_172 (dk_at dksX0_engaged_5 19 rfl rfl)
abbrev cX0_areEngaged : ByteArray := prog_1_method_40_code
def yX0_areEngaged : MethodName := ⟨RX0, "areEngaged", "(II)Z"⟩
def dkwX0_areEngaged_3 : List UInt8 := [159, 0, 7, 4, 167, 0, 4, 3, 172]
abbrev dktX0_areEngaged_3 : List UInt8 := dkwX0_areEngaged_3 ++ []
def dkwX0_areEngaged_2 : List UInt8 := [28, 46, 160, 0, 28, 42, 180, 0, 20, 180, 0, 181, 27, 46, 42, 180, 0, 20, 180, 0, 181, 28, 46]
abbrev dktX0_areEngaged_2 : List UInt8 := dkwX0_areEngaged_2 ++ dktX0_areEngaged_3
def dkwX0_areEngaged_1 : List UInt8 := [180, 0, 171, 28, 46, 160, 0, 49, 42, 180, 0, 20, 180, 0, 175, 27, 46, 42, 180, 0, 20, 180, 0, 175]
abbrev dktX0_areEngaged_1 : List UInt8 := dkwX0_areEngaged_1 ++ dktX0_areEngaged_2
def dkwX0_areEngaged_0 : List UInt8 := [27, 28, 184, 0, 220, 4, 160, 0, 70, 42, 180, 0, 20, 180, 0, 171, 27, 46, 42, 180, 0, 20]
abbrev dktX0_areEngaged_0 : List UInt8 := dkwX0_areEngaged_0 ++ dktX0_areEngaged_1
theorem dksX0_areEngaged_0 : cX0_areEngaged.data.toList.drop 0 = dktX0_areEngaged_0 := by decide +kernel
theorem dksX0_areEngaged_1 : cX0_areEngaged.data.toList.drop 22 = dktX0_areEngaged_1 := dk_seg dksX0_areEngaged_0 22 rfl rfl
theorem dksX0_areEngaged_2 : cX0_areEngaged.data.toList.drop 46 = dktX0_areEngaged_2 := dk_seg dksX0_areEngaged_1 24 rfl rfl
theorem dksX0_areEngaged_3 : cX0_areEngaged.data.toList.drop 69 = dktX0_areEngaged_3 := dk_seg dksX0_areEngaged_2 23 rfl rfl
theorem dX0_areEngaged_0 : decode cX0_areEngaged 0 = .ok (.iload_n 1, 1) := dk_27 (dk_at dksX0_areEngaged_0 0 rfl rfl)
theorem dX0_areEngaged_1 : decode cX0_areEngaged 1 = .ok (.iload_n 2, 1) := dk_28 (dk_at dksX0_areEngaged_0 1 rfl rfl)
theorem dX0_areEngaged_2 : decode cX0_areEngaged 2 = .ok (.invokestatic 220, 3) := dk_184 0 220 (dk_at dksX0_areEngaged_0 2 rfl rfl)
theorem dX0_areEngaged_5 : decode cX0_areEngaged 5 = .ok (.iconst 1, 1) := dk_4 (dk_at dksX0_areEngaged_0 5 rfl rfl)
theorem dX0_areEngaged_6 : decode cX0_areEngaged 6 = .ok (.if_icmp .ne 70, 3) := dk_160 0 70 (dk_at dksX0_areEngaged_0 6 rfl rfl)
theorem dX0_areEngaged_9 : decode cX0_areEngaged 9 = .ok (.aload_n 0, 1) := dk_42 (dk_at dksX0_areEngaged_0 9 rfl rfl)
theorem dX0_areEngaged_10 : decode cX0_areEngaged 10 = .ok (.getfield 20, 3) := dk_180 0 20 (dk_at dksX0_areEngaged_0 10 rfl rfl)
theorem dX0_areEngaged_13 : decode cX0_areEngaged 13 = .ok (.getfield 171, 3) := dk_180 0 171 (dk_at dksX0_areEngaged_0 13 rfl rfl)
theorem dX0_areEngaged_16 : decode cX0_areEngaged 16 = .ok (.iload_n 1, 1) := dk_27 (dk_at dksX0_areEngaged_0 16 rfl rfl)
theorem dX0_areEngaged_17 : decode cX0_areEngaged 17 = .ok (.iaload, 1) := dk_46 (dk_at dksX0_areEngaged_0 17 rfl rfl)
theorem dX0_areEngaged_18 : decode cX0_areEngaged 18 = .ok (.aload_n 0, 1) := dk_42 (dk_at dksX0_areEngaged_0 18 rfl rfl)
theorem dX0_areEngaged_19 : decode cX0_areEngaged 19 = .ok (.getfield 20, 3) := dk_180 0 20 (dk_at dksX0_areEngaged_0 19 rfl rfl)
theorem dX0_areEngaged_22 : decode cX0_areEngaged 22 = .ok (.getfield 171, 3) := dk_180 0 171 (dk_at dksX0_areEngaged_1 0 rfl rfl)
theorem dX0_areEngaged_25 : decode cX0_areEngaged 25 = .ok (.iload_n 2, 1) := dk_28 (dk_at dksX0_areEngaged_1 3 rfl rfl)
theorem dX0_areEngaged_26 : decode cX0_areEngaged 26 = .ok (.iaload, 1) := dk_46 (dk_at dksX0_areEngaged_1 4 rfl rfl)
theorem dX0_areEngaged_27 : decode cX0_areEngaged 27 = .ok (.if_icmp .ne 49, 3) := dk_160 0 49 (dk_at dksX0_areEngaged_1 5 rfl rfl)
theorem dX0_areEngaged_30 : decode cX0_areEngaged 30 = .ok (.aload_n 0, 1) := dk_42 (dk_at dksX0_areEngaged_1 8 rfl rfl)
theorem dX0_areEngaged_31 : decode cX0_areEngaged 31 = .ok (.getfield 20, 3) := dk_180 0 20 (dk_at dksX0_areEngaged_1 9 rfl rfl)
theorem dX0_areEngaged_34 : decode cX0_areEngaged 34 = .ok (.getfield 175, 3) := dk_180 0 175 (dk_at dksX0_areEngaged_1 12 rfl rfl)
theorem dX0_areEngaged_37 : decode cX0_areEngaged 37 = .ok (.iload_n 1, 1) := dk_27 (dk_at dksX0_areEngaged_1 15 rfl rfl)
theorem dX0_areEngaged_38 : decode cX0_areEngaged 38 = .ok (.iaload, 1) := dk_46 (dk_at dksX0_areEngaged_1 16 rfl rfl)
theorem dX0_areEngaged_39 : decode cX0_areEngaged 39 = .ok (.aload_n 0, 1) := dk_42 (dk_at dksX0_areEngaged_1 17 rfl rfl)
theorem dX0_areEngaged_40 : decode cX0_areEngaged 40 = .ok (.getfield 20, 3) := dk_180 0 20 (dk_at dksX0_areEngaged_1 18 rfl rfl)
theorem dX0_areEngaged_43 : decode cX0_areEngaged 43 = .ok (.getfield 175, 3) := dk_180 0 175 (dk_at dksX0_areEngaged_1 21 rfl rfl)
theorem dX0_areEngaged_46 : decode cX0_areEngaged 46 = .ok (.iload_n 2, 1) := dk_28 (dk_at dksX0_areEngaged_2 0 rfl rfl)
theorem dX0_areEngaged_47 : decode cX0_areEngaged 47 = .ok (.iaload, 1) := dk_46 (dk_at dksX0_areEngaged_2 1 rfl rfl)
theorem dX0_areEngaged_48 : decode cX0_areEngaged 48 = .ok (.if_icmp .ne 28, 3) := dk_160 0 28 (dk_at dksX0_areEngaged_2 2 rfl rfl)
theorem dX0_areEngaged_51 : decode cX0_areEngaged 51 = .ok (.aload_n 0, 1) := dk_42 (dk_at dksX0_areEngaged_2 5 rfl rfl)
theorem dX0_areEngaged_52 : decode cX0_areEngaged 52 = .ok (.getfield 20, 3) := dk_180 0 20 (dk_at dksX0_areEngaged_2 6 rfl rfl)
theorem dX0_areEngaged_55 : decode cX0_areEngaged 55 = .ok (.getfield 181, 3) := dk_180 0 181 (dk_at dksX0_areEngaged_2 9 rfl rfl)
theorem dX0_areEngaged_58 : decode cX0_areEngaged 58 = .ok (.iload_n 1, 1) := dk_27 (dk_at dksX0_areEngaged_2 12 rfl rfl)
theorem dX0_areEngaged_59 : decode cX0_areEngaged 59 = .ok (.iaload, 1) := dk_46 (dk_at dksX0_areEngaged_2 13 rfl rfl)
theorem dX0_areEngaged_60 : decode cX0_areEngaged 60 = .ok (.aload_n 0, 1) := dk_42 (dk_at dksX0_areEngaged_2 14 rfl rfl)
theorem dX0_areEngaged_61 : decode cX0_areEngaged 61 = .ok (.getfield 20, 3) := dk_180 0 20 (dk_at dksX0_areEngaged_2 15 rfl rfl)
theorem dX0_areEngaged_64 : decode cX0_areEngaged 64 = .ok (.getfield 181, 3) := dk_180 0 181 (dk_at dksX0_areEngaged_2 18 rfl rfl)
theorem dX0_areEngaged_67 : decode cX0_areEngaged 67 = .ok (.iload_n 2, 1) := dk_28 (dk_at dksX0_areEngaged_2 21 rfl rfl)
theorem dX0_areEngaged_68 : decode cX0_areEngaged 68 = .ok (.iaload, 1) := dk_46 (dk_at dksX0_areEngaged_2 22 rfl rfl)
theorem dX0_areEngaged_69 : decode cX0_areEngaged 69 = .ok (.if_icmp .eq 7, 3) := dk_159 0 7 (dk_at dksX0_areEngaged_3 0 rfl rfl)
theorem dX0_areEngaged_72 : decode cX0_areEngaged 72 = .ok (.iconst 1, 1) := dk_4 (dk_at dksX0_areEngaged_3 3 rfl rfl)
theorem dX0_areEngaged_73 : decode cX0_areEngaged 73 = .ok (.goto 4, 3) := dk_167 0 4 (dk_at dksX0_areEngaged_3 4 rfl rfl)
theorem dX0_areEngaged_76 : decode cX0_areEngaged 76 = .ok (.iconst 0, 1) := dk_3 (dk_at dksX0_areEngaged_3 7 rfl rfl)
theorem dX0_areEngaged_77 : decode cX0_areEngaged 77 = .ok (.ireturn, 1) := dk_172 (dk_at dksX0_areEngaged_3 8 rfl rfl)
abbrev cX0_size : ByteArray := prog_1_method_42_code
def yX0_size : MethodName := ⟨RX0, "size", "(II)I"⟩
def dkwX0_size_2 : List UInt8 := [132, 3, 1, 167, 255, 241, 42, 180, 0, 27, 180, 0, 173, 27, 46, 172]
abbrev dktX0_size_2 : List UInt8 := dkwX0_size_2 ++ []
def dkwX0_size_1 : List UInt8 := [180, 0, 27, 42, 180, 0, 20, 182, 0, 250, 3, 62, 29, 28, 162, 0, 16, 42, 180, 0, 27, 182, 0, 253]
abbrev dktX0_size_1 : List UInt8 := dkwX0_size_1 ++ dktX0_size_2
def dkwX0_size_0 : List UInt8 := [42, 180, 0, 20, 27, 182, 0, 168, 153, 0, 13, 28, 3, 16, 60, 184, 0, 50, 154, 0, 5, 2, 172, 42]
abbrev dktX0_size_0 : List UInt8 := dkwX0_size_0 ++ dktX0_size_1
theorem dksX0_size_0 : cX0_size.data.toList.drop 0 = dktX0_size_0 := by decide +kernel
theorem dksX0_size_1 : cX0_size.data.toList.drop 24 = dktX0_size_1 := dk_seg dksX0_size_0 24 rfl rfl
theorem dksX0_size_2 : cX0_size.data.toList.drop 48 = dktX0_size_2 := dk_seg dksX0_size_1 24 rfl rfl
theorem dX0_size_0 : decode cX0_size 0 = .ok (.aload_n 0, 1) := dk_42 (dk_at dksX0_size_0 0 rfl rfl)
theorem dX0_size_1 : decode cX0_size 1 = .ok (.getfield 20, 3) := dk_180 0 20 (dk_at dksX0_size_0 1 rfl rfl)
theorem dX0_size_4 : decode cX0_size 4 = .ok (.iload_n 1, 1) := dk_27 (dk_at dksX0_size_0 4 rfl rfl)
theorem dX0_size_5 : decode cX0_size 5 = .ok (.invokevirtual 168, 3) := dk_182 0 168 (dk_at dksX0_size_0 5 rfl rfl)
theorem dX0_size_8 : decode cX0_size 8 = .ok (.ifCond .eq 13, 3) := dk_153 0 13 (dk_at dksX0_size_0 8 rfl rfl)
theorem dX0_size_11 : decode cX0_size 11 = .ok (.iload_n 2, 1) := dk_28 (dk_at dksX0_size_0 11 rfl rfl)
theorem dX0_size_12 : decode cX0_size 12 = .ok (.iconst 0, 1) := dk_3 (dk_at dksX0_size_0 12 rfl rfl)
theorem dX0_size_13 : decode cX0_size 13 = .ok (.bipush 60, 2) := dk_16 60 (dk_at dksX0_size_0 13 rfl rfl)
theorem dX0_size_15 : decode cX0_size 15 = .ok (.invokestatic 50, 3) := dk_184 0 50 (dk_at dksX0_size_0 15 rfl rfl)
theorem dX0_size_18 : decode cX0_size 18 = .ok (.ifCond .ne 5, 3) := dk_154 0 5 (dk_at dksX0_size_0 18 rfl rfl)
theorem dX0_size_21 : decode cX0_size 21 = .ok (.iconst (-1), 1) := dk_2 (dk_at dksX0_size_0 21 rfl rfl)
theorem dX0_size_22 : decode cX0_size 22 = .ok (.ireturn, 1) := dk_172 (dk_at dksX0_size_0 22 rfl rfl)
theorem dX0_size_23 : decode cX0_size 23 = .ok (.aload_n 0, 1) := dk_42 (dk_at dksX0_size_0 23 rfl rfl)
theorem dX0_size_24 : decode cX0_size 24 = .ok (.getfield 27, 3) := dk_180 0 27 (dk_at dksX0_size_1 0 rfl rfl)
theorem dX0_size_27 : decode cX0_size 27 = .ok (.aload_n 0, 1) := dk_42 (dk_at dksX0_size_1 3 rfl rfl)
theorem dX0_size_28 : decode cX0_size 28 = .ok (.getfield 20, 3) := dk_180 0 20 (dk_at dksX0_size_1 4 rfl rfl)
theorem dX0_size_31 : decode cX0_size 31 = .ok (.invokevirtual 250, 3) := dk_182 0 250 (dk_at dksX0_size_1 7 rfl rfl)
theorem dX0_size_34 : decode cX0_size 34 = .ok (.iconst 0, 1) := dk_3 (dk_at dksX0_size_1 10 rfl rfl)
theorem dX0_size_35 : decode cX0_size 35 = .ok (.istore_n 3, 1) := dk_62 (dk_at dksX0_size_1 11 rfl rfl)
theorem dX0_size_36 : decode cX0_size 36 = .ok (.iload_n 3, 1) := dk_29 (dk_at dksX0_size_1 12 rfl rfl)
theorem dX0_size_37 : decode cX0_size 37 = .ok (.iload_n 2, 1) := dk_28 (dk_at dksX0_size_1 13 rfl rfl)
theorem dX0_size_38 : decode cX0_size 38 = .ok (.if_icmp .ge 16, 3) := dk_162 0 16 (dk_at dksX0_size_1 14 rfl rfl)
theorem dX0_size_41 : decode cX0_size 41 = .ok (.aload_n 0, 1) := dk_42 (dk_at dksX0_size_1 17 rfl rfl)
theorem dX0_size_42 : decode cX0_size 42 = .ok (.getfield 27, 3) := dk_180 0 27 (dk_at dksX0_size_1 18 rfl rfl)
theorem dX0_size_45 : decode cX0_size 45 = .ok (.invokevirtual 253, 3) := dk_182 0 253 (dk_at dksX0_size_1 21 rfl rfl)
theorem dX0_size_48 : decode cX0_size 48 = .ok (.iinc 3 1, 3) := dk_132 3 1 (dk_at dksX0_size_2 0 rfl rfl)
theorem dX0_size_51 : decode cX0_size 51 = .ok (.goto (-15), 3) := dk_167 255 241 (dk_at dksX0_size_2 3 rfl rfl)
theorem dX0_size_54 : decode cX0_size 54 = .ok (.aload_n 0, 1) := dk_42 (dk_at dksX0_size_2 6 rfl rfl)
theorem dX0_size_55 : decode cX0_size 55 = .ok (.getfield 27, 3) := dk_180 0 27 (dk_at dksX0_size_2 7 rfl rfl)
theorem dX0_size_58 : decode cX0_size 58 = .ok (.getfield 173, 3) := dk_180 0 173 (dk_at dksX0_size_2 10 rfl rfl)
theorem dX0_size_61 : decode cX0_size 61 = .ok (.iload_n 1, 1) := dk_27 (dk_at dksX0_size_2 13 rfl rfl)
theorem dX0_size_62 : decode cX0_size 62 = .ok (.iaload, 1) := dk_46 (dk_at dksX0_size_2 14 rfl rfl)
theorem dX0_size_63 : decode cX0_size 63 = .ok (.ireturn, 1) := dk_172 (dk_at dksX0_size_2 15 rfl rfl)
abbrev cX0_full : ByteArray := prog_1_method_43_code
def yX0_full : MethodName := ⟨RX0, "full", "(I)I"⟩
def dkwX0_full_4 : List UInt8 := [167, 255, 186, 2, 172]
abbrev dktX0_full_4 : List UInt8 := dkwX0_full_4 ++ []
def dkwX0_full_3 : List UInt8 := [132, 4, 1, 167, 255, 217, 29, 27, 161, 0, 5, 28, 172, 42, 180, 0, 27, 182, 0, 253, 132, 2, 1]
abbrev dktX0_full_3 : List UInt8 := dkwX0_full_3 ++ dktX0_full_4
def dkwX0_full_2 : List UInt8 := [182, 0, 168, 153, 0, 16, 42, 180, 0, 27, 180, 0, 173, 21, 4, 46, 167, 0, 4, 3, 96, 62]
abbrev dktX0_full_2 : List UInt8 := dkwX0_full_2 ++ dktX0_full_3
def dkwX0_full_1 : List UInt8 := [163, 0, 70, 3, 62, 3, 54, 4, 21, 4, 16, 64, 162, 0, 38, 29, 42, 180, 0, 27, 21, 4]
abbrev dktX0_full_1 : List UInt8 := dkwX0_full_1 ++ dktX0_full_2
def dkwX0_full_0 : List UInt8 := [27, 156, 0, 5, 2, 172, 42, 180, 0, 27, 42, 180, 0, 20, 182, 0, 250, 3, 61, 28, 16, 60]
abbrev dktX0_full_0 : List UInt8 := dkwX0_full_0 ++ dktX0_full_1
theorem dksX0_full_0 : cX0_full.data.toList.drop 0 = dktX0_full_0 := by decide +kernel
theorem dksX0_full_1 : cX0_full.data.toList.drop 22 = dktX0_full_1 := dk_seg dksX0_full_0 22 rfl rfl
theorem dksX0_full_2 : cX0_full.data.toList.drop 44 = dktX0_full_2 := dk_seg dksX0_full_1 22 rfl rfl
theorem dksX0_full_3 : cX0_full.data.toList.drop 66 = dktX0_full_3 := dk_seg dksX0_full_2 22 rfl rfl
theorem dksX0_full_4 : cX0_full.data.toList.drop 89 = dktX0_full_4 := dk_seg dksX0_full_3 23 rfl rfl
theorem dX0_full_0 : decode cX0_full 0 = .ok (.iload_n 1, 1) := dk_27 (dk_at dksX0_full_0 0 rfl rfl)
theorem dX0_full_1 : decode cX0_full 1 = .ok (.ifCond .ge 5, 3) := dk_156 0 5 (dk_at dksX0_full_0 1 rfl rfl)
theorem dX0_full_4 : decode cX0_full 4 = .ok (.iconst (-1), 1) := dk_2 (dk_at dksX0_full_0 4 rfl rfl)
theorem dX0_full_5 : decode cX0_full 5 = .ok (.ireturn, 1) := dk_172 (dk_at dksX0_full_0 5 rfl rfl)
theorem dX0_full_6 : decode cX0_full 6 = .ok (.aload_n 0, 1) := dk_42 (dk_at dksX0_full_0 6 rfl rfl)
theorem dX0_full_7 : decode cX0_full 7 = .ok (.getfield 27, 3) := dk_180 0 27 (dk_at dksX0_full_0 7 rfl rfl)
theorem dX0_full_10 : decode cX0_full 10 = .ok (.aload_n 0, 1) := dk_42 (dk_at dksX0_full_0 10 rfl rfl)
theorem dX0_full_11 : decode cX0_full 11 = .ok (.getfield 20, 3) := dk_180 0 20 (dk_at dksX0_full_0 11 rfl rfl)
theorem dX0_full_14 : decode cX0_full 14 = .ok (.invokevirtual 250, 3) := dk_182 0 250 (dk_at dksX0_full_0 14 rfl rfl)
theorem dX0_full_17 : decode cX0_full 17 = .ok (.iconst 0, 1) := dk_3 (dk_at dksX0_full_0 17 rfl rfl)
theorem dX0_full_18 : decode cX0_full 18 = .ok (.istore_n 2, 1) := dk_61 (dk_at dksX0_full_0 18 rfl rfl)
theorem dX0_full_19 : decode cX0_full 19 = .ok (.iload_n 2, 1) := dk_28 (dk_at dksX0_full_0 19 rfl rfl)
theorem dX0_full_20 : decode cX0_full 20 = .ok (.bipush 60, 2) := dk_16 60 (dk_at dksX0_full_0 20 rfl rfl)
theorem dX0_full_22 : decode cX0_full 22 = .ok (.if_icmp .gt 70, 3) := dk_163 0 70 (dk_at dksX0_full_1 0 rfl rfl)
theorem dX0_full_25 : decode cX0_full 25 = .ok (.iconst 0, 1) := dk_3 (dk_at dksX0_full_1 3 rfl rfl)
theorem dX0_full_26 : decode cX0_full 26 = .ok (.istore_n 3, 1) := dk_62 (dk_at dksX0_full_1 4 rfl rfl)
theorem dX0_full_27 : decode cX0_full 27 = .ok (.iconst 0, 1) := dk_3 (dk_at dksX0_full_1 5 rfl rfl)
theorem dX0_full_28 : decode cX0_full 28 = .ok (.istore 4, 2) := dk_54 4 (dk_at dksX0_full_1 6 rfl rfl)
theorem dX0_full_30 : decode cX0_full 30 = .ok (.iload 4, 2) := dk_21 4 (dk_at dksX0_full_1 8 rfl rfl)
theorem dX0_full_32 : decode cX0_full 32 = .ok (.bipush 64, 2) := dk_16 64 (dk_at dksX0_full_1 10 rfl rfl)
theorem dX0_full_34 : decode cX0_full 34 = .ok (.if_icmp .ge 38, 3) := dk_162 0 38 (dk_at dksX0_full_1 12 rfl rfl)
theorem dX0_full_37 : decode cX0_full 37 = .ok (.iload_n 3, 1) := dk_29 (dk_at dksX0_full_1 15 rfl rfl)
theorem dX0_full_38 : decode cX0_full 38 = .ok (.aload_n 0, 1) := dk_42 (dk_at dksX0_full_1 16 rfl rfl)
theorem dX0_full_39 : decode cX0_full 39 = .ok (.getfield 27, 3) := dk_180 0 27 (dk_at dksX0_full_1 17 rfl rfl)
theorem dX0_full_42 : decode cX0_full 42 = .ok (.iload 4, 2) := dk_21 4 (dk_at dksX0_full_1 20 rfl rfl)
theorem dX0_full_44 : decode cX0_full 44 = .ok (.invokevirtual 168, 3) := dk_182 0 168 (dk_at dksX0_full_2 0 rfl rfl)
theorem dX0_full_47 : decode cX0_full 47 = .ok (.ifCond .eq 16, 3) := dk_153 0 16 (dk_at dksX0_full_2 3 rfl rfl)
theorem dX0_full_50 : decode cX0_full 50 = .ok (.aload_n 0, 1) := dk_42 (dk_at dksX0_full_2 6 rfl rfl)
theorem dX0_full_51 : decode cX0_full 51 = .ok (.getfield 27, 3) := dk_180 0 27 (dk_at dksX0_full_2 7 rfl rfl)
theorem dX0_full_54 : decode cX0_full 54 = .ok (.getfield 173, 3) := dk_180 0 173 (dk_at dksX0_full_2 10 rfl rfl)
theorem dX0_full_57 : decode cX0_full 57 = .ok (.iload 4, 2) := dk_21 4 (dk_at dksX0_full_2 13 rfl rfl)
theorem dX0_full_59 : decode cX0_full 59 = .ok (.iaload, 1) := dk_46 (dk_at dksX0_full_2 15 rfl rfl)
theorem dX0_full_60 : decode cX0_full 60 = .ok (.goto 4, 3) := dk_167 0 4 (dk_at dksX0_full_2 16 rfl rfl)
theorem dX0_full_63 : decode cX0_full 63 = .ok (.iconst 0, 1) := dk_3 (dk_at dksX0_full_2 19 rfl rfl)
theorem dX0_full_64 : decode cX0_full 64 = .ok (.iadd, 1) := dk_96 (dk_at dksX0_full_2 20 rfl rfl)
theorem dX0_full_65 : decode cX0_full 65 = .ok (.istore_n 3, 1) := dk_62 (dk_at dksX0_full_2 21 rfl rfl)
theorem dX0_full_66 : decode cX0_full 66 = .ok (.iinc 4 1, 3) := dk_132 4 1 (dk_at dksX0_full_3 0 rfl rfl)
theorem dX0_full_69 : decode cX0_full 69 = .ok (.goto (-39), 3) := dk_167 255 217 (dk_at dksX0_full_3 3 rfl rfl)
theorem dX0_full_72 : decode cX0_full 72 = .ok (.iload_n 3, 1) := dk_29 (dk_at dksX0_full_3 6 rfl rfl)
theorem dX0_full_73 : decode cX0_full 73 = .ok (.iload_n 1, 1) := dk_27 (dk_at dksX0_full_3 7 rfl rfl)
theorem dX0_full_74 : decode cX0_full 74 = .ok (.if_icmp .lt 5, 3) := dk_161 0 5 (dk_at dksX0_full_3 8 rfl rfl)
theorem dX0_full_77 : decode cX0_full 77 = .ok (.iload_n 2, 1) := dk_28 (dk_at dksX0_full_3 11 rfl rfl)
theorem dX0_full_78 : decode cX0_full 78 = .ok (.ireturn, 1) := dk_172 (dk_at dksX0_full_3 12 rfl rfl)
theorem dX0_full_79 : decode cX0_full 79 = .ok (.aload_n 0, 1) := dk_42 (dk_at dksX0_full_3 13 rfl rfl)
theorem dX0_full_80 : decode cX0_full 80 = .ok (.getfield 27, 3) := dk_180 0 27 (dk_at dksX0_full_3 14 rfl rfl)
theorem dX0_full_83 : decode cX0_full 83 = .ok (.invokevirtual 253, 3) := dk_182 0 253 (dk_at dksX0_full_3 17 rfl rfl)
theorem dX0_full_86 : decode cX0_full 86 = .ok (.iinc 2 1, 3) := dk_132 2 1 (dk_at dksX0_full_3 20 rfl rfl)
theorem dX0_full_89 : decode cX0_full 89 = .ok (.goto (-70), 3) := dk_167 255 186 (dk_at dksX0_full_4 0 rfl rfl)
theorem dX0_full_92 : decode cX0_full 92 = .ok (.iconst (-1), 1) := dk_2 (dk_at dksX0_full_4 3 rfl rfl)
theorem dX0_full_93 : decode cX0_full 93 = .ok (.ireturn, 1) := dk_172 (dk_at dksX0_full_4 4 rfl rfl)
abbrev cX0_went : ByteArray := prog_1_method_44_code
def yX0_went : MethodName := ⟨RX0, "went", "(IIII)I"⟩
def dkwX0_went_3 : List UInt8 := [153, 0, 14, 21, 5, 4, 25, 7, 3, 46, 120, 128, 54, 5, 132, 6, 1, 167, 255, 193, 21, 5, 172]
abbrev dktX0_went_3 : List UInt8 := dkwX0_went_3 ++ []
def dkwX0_went_2 : List UInt8 := [25, 7, 4, 46, 27, 184, 0, 220, 28, 163, 0, 27, 25, 7, 6, 46, 29, 21, 4, 184, 0, 50]
abbrev dktX0_went_2 : List UInt8 := dkwX0_went_2 ++ dktX0_went_3
def dkwX0_went_1 : List UInt8 := [21, 6, 42, 180, 0, 20, 180, 0, 184, 162, 0, 57, 42, 180, 0, 20, 180, 0, 187, 21, 6, 50, 58, 7]
abbrev dktX0_went_1 : List UInt8 := dkwX0_went_1 ++ dktX0_went_2
def dkwX0_went_0 : List UInt8 := [42, 27, 28, 182, 0, 234, 153, 0, 9, 21, 4, 29, 162, 0, 5, 2, 172, 3, 54, 5, 3, 54, 6]
abbrev dktX0_went_0 : List UInt8 := dkwX0_went_0 ++ dktX0_went_1
theorem dksX0_went_0 : cX0_went.data.toList.drop 0 = dktX0_went_0 := by decide +kernel
theorem dksX0_went_1 : cX0_went.data.toList.drop 23 = dktX0_went_1 := dk_seg dksX0_went_0 23 rfl rfl
theorem dksX0_went_2 : cX0_went.data.toList.drop 47 = dktX0_went_2 := dk_seg dksX0_went_1 24 rfl rfl
theorem dksX0_went_3 : cX0_went.data.toList.drop 69 = dktX0_went_3 := dk_seg dksX0_went_2 22 rfl rfl
theorem dX0_went_0 : decode cX0_went 0 = .ok (.aload_n 0, 1) := dk_42 (dk_at dksX0_went_0 0 rfl rfl)
theorem dX0_went_1 : decode cX0_went 1 = .ok (.iload_n 1, 1) := dk_27 (dk_at dksX0_went_0 1 rfl rfl)
theorem dX0_went_2 : decode cX0_went 2 = .ok (.iload_n 2, 1) := dk_28 (dk_at dksX0_went_0 2 rfl rfl)
theorem dX0_went_3 : decode cX0_went 3 = .ok (.invokevirtual 234, 3) := dk_182 0 234 (dk_at dksX0_went_0 3 rfl rfl)
theorem dX0_went_6 : decode cX0_went 6 = .ok (.ifCond .eq 9, 3) := dk_153 0 9 (dk_at dksX0_went_0 6 rfl rfl)
theorem dX0_went_9 : decode cX0_went 9 = .ok (.iload 4, 2) := dk_21 4 (dk_at dksX0_went_0 9 rfl rfl)
theorem dX0_went_11 : decode cX0_went 11 = .ok (.iload_n 3, 1) := dk_29 (dk_at dksX0_went_0 11 rfl rfl)
theorem dX0_went_12 : decode cX0_went 12 = .ok (.if_icmp .ge 5, 3) := dk_162 0 5 (dk_at dksX0_went_0 12 rfl rfl)
theorem dX0_went_15 : decode cX0_went 15 = .ok (.iconst (-1), 1) := dk_2 (dk_at dksX0_went_0 15 rfl rfl)
theorem dX0_went_16 : decode cX0_went 16 = .ok (.ireturn, 1) := dk_172 (dk_at dksX0_went_0 16 rfl rfl)
theorem dX0_went_17 : decode cX0_went 17 = .ok (.iconst 0, 1) := dk_3 (dk_at dksX0_went_0 17 rfl rfl)
theorem dX0_went_18 : decode cX0_went 18 = .ok (.istore 5, 2) := dk_54 5 (dk_at dksX0_went_0 18 rfl rfl)
theorem dX0_went_20 : decode cX0_went 20 = .ok (.iconst 0, 1) := dk_3 (dk_at dksX0_went_0 20 rfl rfl)
theorem dX0_went_21 : decode cX0_went 21 = .ok (.istore 6, 2) := dk_54 6 (dk_at dksX0_went_0 21 rfl rfl)
theorem dX0_went_23 : decode cX0_went 23 = .ok (.iload 6, 2) := dk_21 6 (dk_at dksX0_went_1 0 rfl rfl)
theorem dX0_went_25 : decode cX0_went 25 = .ok (.aload_n 0, 1) := dk_42 (dk_at dksX0_went_1 2 rfl rfl)
theorem dX0_went_26 : decode cX0_went 26 = .ok (.getfield 20, 3) := dk_180 0 20 (dk_at dksX0_went_1 3 rfl rfl)
theorem dX0_went_29 : decode cX0_went 29 = .ok (.getfield 184, 3) := dk_180 0 184 (dk_at dksX0_went_1 6 rfl rfl)
theorem dX0_went_32 : decode cX0_went 32 = .ok (.if_icmp .ge 57, 3) := dk_162 0 57 (dk_at dksX0_went_1 9 rfl rfl)
theorem dX0_went_35 : decode cX0_went 35 = .ok (.aload_n 0, 1) := dk_42 (dk_at dksX0_went_1 12 rfl rfl)
theorem dX0_went_36 : decode cX0_went 36 = .ok (.getfield 20, 3) := dk_180 0 20 (dk_at dksX0_went_1 13 rfl rfl)
theorem dX0_went_39 : decode cX0_went 39 = .ok (.getfield 187, 3) := dk_180 0 187 (dk_at dksX0_went_1 16 rfl rfl)
theorem dX0_went_42 : decode cX0_went 42 = .ok (.iload 6, 2) := dk_21 6 (dk_at dksX0_went_1 19 rfl rfl)
theorem dX0_went_44 : decode cX0_went 44 = .ok (.aaload, 1) := dk_50 (dk_at dksX0_went_1 21 rfl rfl)
theorem dX0_went_45 : decode cX0_went 45 = .ok (.astore 7, 2) := dk_58 7 (dk_at dksX0_went_1 22 rfl rfl)
theorem dX0_went_47 : decode cX0_went 47 = .ok (.aload 7, 2) := dk_25 7 (dk_at dksX0_went_2 0 rfl rfl)
theorem dX0_went_49 : decode cX0_went 49 = .ok (.iconst 1, 1) := dk_4 (dk_at dksX0_went_2 2 rfl rfl)
theorem dX0_went_50 : decode cX0_went 50 = .ok (.iaload, 1) := dk_46 (dk_at dksX0_went_2 3 rfl rfl)
theorem dX0_went_51 : decode cX0_went 51 = .ok (.iload_n 1, 1) := dk_27 (dk_at dksX0_went_2 4 rfl rfl)
theorem dX0_went_52 : decode cX0_went 52 = .ok (.invokestatic 220, 3) := dk_184 0 220 (dk_at dksX0_went_2 5 rfl rfl)
theorem dX0_went_55 : decode cX0_went 55 = .ok (.iload_n 2, 1) := dk_28 (dk_at dksX0_went_2 8 rfl rfl)
theorem dX0_went_56 : decode cX0_went 56 = .ok (.if_icmp .gt 27, 3) := dk_163 0 27 (dk_at dksX0_went_2 9 rfl rfl)
theorem dX0_went_59 : decode cX0_went 59 = .ok (.aload 7, 2) := dk_25 7 (dk_at dksX0_went_2 12 rfl rfl)
theorem dX0_went_61 : decode cX0_went 61 = .ok (.iconst 3, 1) := dk_6 (dk_at dksX0_went_2 14 rfl rfl)
theorem dX0_went_62 : decode cX0_went 62 = .ok (.iaload, 1) := dk_46 (dk_at dksX0_went_2 15 rfl rfl)
theorem dX0_went_63 : decode cX0_went 63 = .ok (.iload_n 3, 1) := dk_29 (dk_at dksX0_went_2 16 rfl rfl)
theorem dX0_went_64 : decode cX0_went 64 = .ok (.iload 4, 2) := dk_21 4 (dk_at dksX0_went_2 17 rfl rfl)
theorem dX0_went_66 : decode cX0_went 66 = .ok (.invokestatic 50, 3) := dk_184 0 50 (dk_at dksX0_went_2 19 rfl rfl)
theorem dX0_went_69 : decode cX0_went 69 = .ok (.ifCond .eq 14, 3) := dk_153 0 14 (dk_at dksX0_went_3 0 rfl rfl)
theorem dX0_went_72 : decode cX0_went 72 = .ok (.iload 5, 2) := dk_21 5 (dk_at dksX0_went_3 3 rfl rfl)
theorem dX0_went_74 : decode cX0_went 74 = .ok (.iconst 1, 1) := dk_4 (dk_at dksX0_went_3 5 rfl rfl)
theorem dX0_went_75 : decode cX0_went 75 = .ok (.aload 7, 2) := dk_25 7 (dk_at dksX0_went_3 6 rfl rfl)
theorem dX0_went_77 : decode cX0_went 77 = .ok (.iconst 0, 1) := dk_3 (dk_at dksX0_went_3 8 rfl rfl)
theorem dX0_went_78 : decode cX0_went 78 = .ok (.iaload, 1) := dk_46 (dk_at dksX0_went_3 9 rfl rfl)
theorem dX0_went_79 : decode cX0_went 79 = .ok (.ishl, 1) := dk_120 (dk_at dksX0_went_3 10 rfl rfl)
theorem dX0_went_80 : decode cX0_went 80 = .ok (.ior, 1) := dk_128 (dk_at dksX0_went_3 11 rfl rfl)
theorem dX0_went_81 : decode cX0_went 81 = .ok (.istore 5, 2) := dk_54 5 (dk_at dksX0_went_3 12 rfl rfl)
theorem dX0_went_83 : decode cX0_went 83 = .ok (.iinc 6 1, 3) := dk_132 6 1 (dk_at dksX0_went_3 14 rfl rfl)
theorem dX0_went_86 : decode cX0_went 86 = .ok (.goto (-63), 3) := dk_167 255 193 (dk_at dksX0_went_3 17 rfl rfl)
theorem dX0_went_89 : decode cX0_went 89 = .ok (.iload 5, 2) := dk_21 5 (dk_at dksX0_went_3 20 rfl rfl)
theorem dX0_went_91 : decode cX0_went 91 = .ok (.ireturn, 1) := dk_172 (dk_at dksX0_went_3 22 rfl rfl)
abbrev cX0_image : ByteArray := prog_1_method_45_code
def yX0_image : MethodName := ⟨RX0, "image", "(Z)Z"⟩
def dkwX0_image_2 : List UInt8 := [42, 182, 0, 110, 87, 42, 4, 181, 1, 0, 4, 172]
abbrev dktX0_image_2 : List UInt8 := dkwX0_image_2 ++ []
def dkwX0_image_1 : List UInt8 := [180, 0, 20, 182, 0, 250, 167, 0, 14, 42, 180, 0, 20, 42, 180, 0, 24, 182, 0, 250, 27, 154, 0, 8]
abbrev dktX0_image_1 : List UInt8 := dkwX0_image_1 ++ dktX0_image_2
def dkwX0_image_0 : List UInt8 := [27, 154, 0, 12, 42, 180, 1, 0, 154, 0, 5, 3, 172, 27, 153, 0, 17, 42, 180, 0, 24, 42]
abbrev dktX0_image_0 : List UInt8 := dkwX0_image_0 ++ dktX0_image_1
theorem dksX0_image_0 : cX0_image.data.toList.drop 0 = dktX0_image_0 := by decide +kernel
theorem dksX0_image_1 : cX0_image.data.toList.drop 22 = dktX0_image_1 := dk_seg dksX0_image_0 22 rfl rfl
theorem dksX0_image_2 : cX0_image.data.toList.drop 46 = dktX0_image_2 := dk_seg dksX0_image_1 24 rfl rfl
theorem dX0_image_0 : decode cX0_image 0 = .ok (.iload_n 1, 1) := dk_27 (dk_at dksX0_image_0 0 rfl rfl)
theorem dX0_image_1 : decode cX0_image 1 = .ok (.ifCond .ne 12, 3) := dk_154 0 12 (dk_at dksX0_image_0 1 rfl rfl)
theorem dX0_image_4 : decode cX0_image 4 = .ok (.aload_n 0, 1) := dk_42 (dk_at dksX0_image_0 4 rfl rfl)
theorem dX0_image_5 : decode cX0_image 5 = .ok (.getfield 256, 3) := dk_180 1 0 (dk_at dksX0_image_0 5 rfl rfl)
theorem dX0_image_8 : decode cX0_image 8 = .ok (.ifCond .ne 5, 3) := dk_154 0 5 (dk_at dksX0_image_0 8 rfl rfl)
theorem dX0_image_11 : decode cX0_image 11 = .ok (.iconst 0, 1) := dk_3 (dk_at dksX0_image_0 11 rfl rfl)
theorem dX0_image_12 : decode cX0_image 12 = .ok (.ireturn, 1) := dk_172 (dk_at dksX0_image_0 12 rfl rfl)
theorem dX0_image_13 : decode cX0_image 13 = .ok (.iload_n 1, 1) := dk_27 (dk_at dksX0_image_0 13 rfl rfl)
theorem dX0_image_14 : decode cX0_image 14 = .ok (.ifCond .eq 17, 3) := dk_153 0 17 (dk_at dksX0_image_0 14 rfl rfl)
theorem dX0_image_17 : decode cX0_image 17 = .ok (.aload_n 0, 1) := dk_42 (dk_at dksX0_image_0 17 rfl rfl)
theorem dX0_image_18 : decode cX0_image 18 = .ok (.getfield 24, 3) := dk_180 0 24 (dk_at dksX0_image_0 18 rfl rfl)
theorem dX0_image_21 : decode cX0_image 21 = .ok (.aload_n 0, 1) := dk_42 (dk_at dksX0_image_0 21 rfl rfl)
theorem dX0_image_22 : decode cX0_image 22 = .ok (.getfield 20, 3) := dk_180 0 20 (dk_at dksX0_image_1 0 rfl rfl)
theorem dX0_image_25 : decode cX0_image 25 = .ok (.invokevirtual 250, 3) := dk_182 0 250 (dk_at dksX0_image_1 3 rfl rfl)
theorem dX0_image_28 : decode cX0_image 28 = .ok (.goto 14, 3) := dk_167 0 14 (dk_at dksX0_image_1 6 rfl rfl)
theorem dX0_image_31 : decode cX0_image 31 = .ok (.aload_n 0, 1) := dk_42 (dk_at dksX0_image_1 9 rfl rfl)
theorem dX0_image_32 : decode cX0_image 32 = .ok (.getfield 20, 3) := dk_180 0 20 (dk_at dksX0_image_1 10 rfl rfl)
theorem dX0_image_35 : decode cX0_image 35 = .ok (.aload_n 0, 1) := dk_42 (dk_at dksX0_image_1 13 rfl rfl)
theorem dX0_image_36 : decode cX0_image 36 = .ok (.getfield 24, 3) := dk_180 0 24 (dk_at dksX0_image_1 14 rfl rfl)
theorem dX0_image_39 : decode cX0_image 39 = .ok (.invokevirtual 250, 3) := dk_182 0 250 (dk_at dksX0_image_1 17 rfl rfl)
theorem dX0_image_42 : decode cX0_image 42 = .ok (.iload_n 1, 1) := dk_27 (dk_at dksX0_image_1 20 rfl rfl)
theorem dX0_image_43 : decode cX0_image 43 = .ok (.ifCond .ne 8, 3) := dk_154 0 8 (dk_at dksX0_image_1 21 rfl rfl)
theorem dX0_image_46 : decode cX0_image 46 = .ok (.aload_n 0, 1) := dk_42 (dk_at dksX0_image_2 0 rfl rfl)
theorem dX0_image_47 : decode cX0_image 47 = .ok (.invokevirtual 110, 3) := dk_182 0 110 (dk_at dksX0_image_2 1 rfl rfl)
theorem dX0_image_50 : decode cX0_image 50 = .ok (.pop, 1) := dk_87 (dk_at dksX0_image_2 4 rfl rfl)
theorem dX0_image_51 : decode cX0_image 51 = .ok (.aload_n 0, 1) := dk_42 (dk_at dksX0_image_2 5 rfl rfl)
theorem dX0_image_52 : decode cX0_image 52 = .ok (.iconst 1, 1) := dk_4 (dk_at dksX0_image_2 6 rfl rfl)
theorem dX0_image_53 : decode cX0_image 53 = .ok (.putfield 256, 3) := dk_181 1 0 (dk_at dksX0_image_2 7 rfl rfl)
theorem dX0_image_56 : decode cX0_image 56 = .ok (.iconst 1, 1) := dk_4 (dk_at dksX0_image_2 10 rfl rfl)
theorem dX0_image_57 : decode cX0_image 57 = .ok (.ireturn, 1) := dk_172 (dk_at dksX0_image_2 11 rfl rfl)
abbrev cX0_look : ByteArray := prog_1_method_46_code
def yX0_look : MethodName := ⟨RX0, "look", "(I)I"⟩
def dkwX0_look_7 : List UInt8 := [2, 172]
abbrev dktX0_look_7 : List UInt8 := dkwX0_look_7 ++ []
def dkwX0_look_6 : List UInt8 := [42, 180, 0, 20, 180, 0, 138, 172, 42, 180, 0, 20, 180, 0, 141, 172, 42, 180, 0, 20, 180, 0, 144, 172]
abbrev dktX0_look_6 : List UInt8 := dkwX0_look_6 ++ dktX0_look_7
def dkwX0_look_5 : List UInt8 := [42, 180, 0, 20, 180, 0, 197, 172, 42, 180, 0, 20, 180, 0, 66, 182, 0, 70, 172, 42, 180, 0, 90, 172]
abbrev dktX0_look_5 : List UInt8 := dkwX0_look_5 ++ dktX0_look_6
def dkwX0_look_4 : List UInt8 := [42, 180, 0, 20, 180, 0, 184, 172, 42, 180, 0, 20, 180, 0, 103, 172, 42, 180, 0, 20, 180, 0, 165, 172]
abbrev dktX0_look_4 : List UInt8 := dkwX0_look_4 ++ dktX0_look_5
def dkwX0_look_3 : List UInt8 := [42, 180, 0, 20, 180, 0, 100, 172, 42, 180, 0, 20, 180, 0, 93, 172, 42, 180, 0, 20, 182, 1, 4, 172]
abbrev dktX0_look_3 : List UInt8 := dkwX0_look_3 ++ dktX0_look_4
def dkwX0_look_2 : List UInt8 := [42, 180, 0, 20, 180, 0, 153, 172, 42, 180, 0, 20, 180, 0, 156, 172, 42, 180, 0, 20, 180, 0, 178, 172]
abbrev dktX0_look_2 : List UInt8 := dkwX0_look_2 ++ dktX0_look_3
def dkwX0_look_1 : List UInt8 := [170, 0, 0, 0, 0, 0, 227, 0, 0, 0, 0, 0, 0, 0, 22, 0, 0, 0, 107, 0, 0, 0, 115, 0, 0, 0, 123, 0, 0, 0, 131, 0, 0, 0, 139, 0, 0, 0, 147, 0, 0, 0, 155, 0, 0, 0, 163, 0, 0, 0, 171, 0, 0, 0, 179, 0, 0, 0, 187, 0, 0, 0, 198, 0, 0, 0, 227, 0, 0, 0, 227, 0, 0, 0, 227, 0, 0, 0, 227, 0, 0, 0, 227, 0, 0, 0, 227, 0, 0, 0, 227, 0, 0, 0, 227, 0, 0, 0, 203, 0, 0, 0, 211, 0, 0, 0, 219]
abbrev dktX0_look_1 : List UInt8 := dkwX0_look_1 ++ dktX0_look_2
def dkwX0_look_0 : List UInt8 := [27]
abbrev dktX0_look_0 : List UInt8 := dkwX0_look_0 ++ dktX0_look_1
theorem dksX0_look_0 : cX0_look.data.toList.drop 0 = dktX0_look_0 := by decide +kernel
theorem dksX0_look_1 : cX0_look.data.toList.drop 1 = dktX0_look_1 := dk_seg dksX0_look_0 1 rfl rfl
theorem dksX0_look_2 : cX0_look.data.toList.drop 108 = dktX0_look_2 := dk_seg dksX0_look_1 107 rfl rfl
theorem dksX0_look_3 : cX0_look.data.toList.drop 132 = dktX0_look_3 := dk_seg dksX0_look_2 24 rfl rfl
theorem dksX0_look_4 : cX0_look.data.toList.drop 156 = dktX0_look_4 := dk_seg dksX0_look_3 24 rfl rfl
theorem dksX0_look_5 : cX0_look.data.toList.drop 180 = dktX0_look_5 := dk_seg dksX0_look_4 24 rfl rfl
theorem dksX0_look_6 : cX0_look.data.toList.drop 204 = dktX0_look_6 := dk_seg dksX0_look_5 24 rfl rfl
theorem dksX0_look_7 : cX0_look.data.toList.drop 228 = dktX0_look_7 := dk_seg dksX0_look_6 24 rfl rfl
theorem dX0_look_0 : decode cX0_look 0 = .ok (.iload_n 1, 1) := dk_27 (dk_at dksX0_look_0 0 rfl rfl)
theorem dX0_look_1 : decode cX0_look 1 = .ok (.tableswitch 227 0 22 #[107, 115, 123, 131, 139, 147, 155, 163, 171, 179, 187, 198, 227, 227, 227, 227, 227, 227, 227, 227, 203, 211, 219], 107) := by decide +kernel
theorem dX0_look_108 : decode cX0_look 108 = .ok (.aload_n 0, 1) := dk_42 (dk_at dksX0_look_2 0 rfl rfl)
theorem dX0_look_109 : decode cX0_look 109 = .ok (.getfield 20, 3) := dk_180 0 20 (dk_at dksX0_look_2 1 rfl rfl)
theorem dX0_look_112 : decode cX0_look 112 = .ok (.getfield 153, 3) := dk_180 0 153 (dk_at dksX0_look_2 4 rfl rfl)
theorem dX0_look_115 : decode cX0_look 115 = .ok (.ireturn, 1) := dk_172 (dk_at dksX0_look_2 7 rfl rfl)
theorem dX0_look_116 : decode cX0_look 116 = .ok (.aload_n 0, 1) := dk_42 (dk_at dksX0_look_2 8 rfl rfl)
theorem dX0_look_117 : decode cX0_look 117 = .ok (.getfield 20, 3) := dk_180 0 20 (dk_at dksX0_look_2 9 rfl rfl)
theorem dX0_look_120 : decode cX0_look 120 = .ok (.getfield 156, 3) := dk_180 0 156 (dk_at dksX0_look_2 12 rfl rfl)
theorem dX0_look_123 : decode cX0_look 123 = .ok (.ireturn, 1) := dk_172 (dk_at dksX0_look_2 15 rfl rfl)
theorem dX0_look_124 : decode cX0_look 124 = .ok (.aload_n 0, 1) := dk_42 (dk_at dksX0_look_2 16 rfl rfl)
theorem dX0_look_125 : decode cX0_look 125 = .ok (.getfield 20, 3) := dk_180 0 20 (dk_at dksX0_look_2 17 rfl rfl)
theorem dX0_look_128 : decode cX0_look 128 = .ok (.getfield 178, 3) := dk_180 0 178 (dk_at dksX0_look_2 20 rfl rfl)
theorem dX0_look_131 : decode cX0_look 131 = .ok (.ireturn, 1) := dk_172 (dk_at dksX0_look_2 23 rfl rfl)
theorem dX0_look_132 : decode cX0_look 132 = .ok (.aload_n 0, 1) := dk_42 (dk_at dksX0_look_3 0 rfl rfl)
theorem dX0_look_133 : decode cX0_look 133 = .ok (.getfield 20, 3) := dk_180 0 20 (dk_at dksX0_look_3 1 rfl rfl)
theorem dX0_look_136 : decode cX0_look 136 = .ok (.getfield 100, 3) := dk_180 0 100 (dk_at dksX0_look_3 4 rfl rfl)
theorem dX0_look_139 : decode cX0_look 139 = .ok (.ireturn, 1) := dk_172 (dk_at dksX0_look_3 7 rfl rfl)
theorem dX0_look_140 : decode cX0_look 140 = .ok (.aload_n 0, 1) := dk_42 (dk_at dksX0_look_3 8 rfl rfl)
theorem dX0_look_141 : decode cX0_look 141 = .ok (.getfield 20, 3) := dk_180 0 20 (dk_at dksX0_look_3 9 rfl rfl)
theorem dX0_look_144 : decode cX0_look 144 = .ok (.getfield 93, 3) := dk_180 0 93 (dk_at dksX0_look_3 12 rfl rfl)
theorem dX0_look_147 : decode cX0_look 147 = .ok (.ireturn, 1) := dk_172 (dk_at dksX0_look_3 15 rfl rfl)
theorem dX0_look_148 : decode cX0_look 148 = .ok (.aload_n 0, 1) := dk_42 (dk_at dksX0_look_3 16 rfl rfl)
theorem dX0_look_149 : decode cX0_look 149 = .ok (.getfield 20, 3) := dk_180 0 20 (dk_at dksX0_look_3 17 rfl rfl)
theorem dX0_look_152 : decode cX0_look 152 = .ok (.invokevirtual 260, 3) := dk_182 1 4 (dk_at dksX0_look_3 20 rfl rfl)
theorem dX0_look_155 : decode cX0_look 155 = .ok (.ireturn, 1) := dk_172 (dk_at dksX0_look_3 23 rfl rfl)
theorem dX0_look_156 : decode cX0_look 156 = .ok (.aload_n 0, 1) := dk_42 (dk_at dksX0_look_4 0 rfl rfl)
theorem dX0_look_157 : decode cX0_look 157 = .ok (.getfield 20, 3) := dk_180 0 20 (dk_at dksX0_look_4 1 rfl rfl)
theorem dX0_look_160 : decode cX0_look 160 = .ok (.getfield 184, 3) := dk_180 0 184 (dk_at dksX0_look_4 4 rfl rfl)
theorem dX0_look_163 : decode cX0_look 163 = .ok (.ireturn, 1) := dk_172 (dk_at dksX0_look_4 7 rfl rfl)
theorem dX0_look_164 : decode cX0_look 164 = .ok (.aload_n 0, 1) := dk_42 (dk_at dksX0_look_4 8 rfl rfl)
theorem dX0_look_165 : decode cX0_look 165 = .ok (.getfield 20, 3) := dk_180 0 20 (dk_at dksX0_look_4 9 rfl rfl)
theorem dX0_look_168 : decode cX0_look 168 = .ok (.getfield 103, 3) := dk_180 0 103 (dk_at dksX0_look_4 12 rfl rfl)
theorem dX0_look_171 : decode cX0_look 171 = .ok (.ireturn, 1) := dk_172 (dk_at dksX0_look_4 15 rfl rfl)
theorem dX0_look_172 : decode cX0_look 172 = .ok (.aload_n 0, 1) := dk_42 (dk_at dksX0_look_4 16 rfl rfl)
theorem dX0_look_173 : decode cX0_look 173 = .ok (.getfield 20, 3) := dk_180 0 20 (dk_at dksX0_look_4 17 rfl rfl)
theorem dX0_look_176 : decode cX0_look 176 = .ok (.getfield 165, 3) := dk_180 0 165 (dk_at dksX0_look_4 20 rfl rfl)
theorem dX0_look_179 : decode cX0_look 179 = .ok (.ireturn, 1) := dk_172 (dk_at dksX0_look_4 23 rfl rfl)
theorem dX0_look_180 : decode cX0_look 180 = .ok (.aload_n 0, 1) := dk_42 (dk_at dksX0_look_5 0 rfl rfl)
theorem dX0_look_181 : decode cX0_look 181 = .ok (.getfield 20, 3) := dk_180 0 20 (dk_at dksX0_look_5 1 rfl rfl)
theorem dX0_look_184 : decode cX0_look 184 = .ok (.getfield 197, 3) := dk_180 0 197 (dk_at dksX0_look_5 4 rfl rfl)
theorem dX0_look_187 : decode cX0_look 187 = .ok (.ireturn, 1) := dk_172 (dk_at dksX0_look_5 7 rfl rfl)
theorem dX0_look_188 : decode cX0_look 188 = .ok (.aload_n 0, 1) := dk_42 (dk_at dksX0_look_5 8 rfl rfl)
theorem dX0_look_189 : decode cX0_look 189 = .ok (.getfield 20, 3) := dk_180 0 20 (dk_at dksX0_look_5 9 rfl rfl)
theorem dX0_look_192 : decode cX0_look 192 = .ok (.getfield 66, 3) := dk_180 0 66 (dk_at dksX0_look_5 12 rfl rfl)
theorem dX0_look_195 : decode cX0_look 195 = .ok (.invokevirtual 70, 3) := dk_182 0 70 (dk_at dksX0_look_5 15 rfl rfl)
theorem dX0_look_198 : decode cX0_look 198 = .ok (.ireturn, 1) := dk_172 (dk_at dksX0_look_5 18 rfl rfl)
theorem dX0_look_199 : decode cX0_look 199 = .ok (.aload_n 0, 1) := dk_42 (dk_at dksX0_look_5 19 rfl rfl)
theorem dX0_look_200 : decode cX0_look 200 = .ok (.getfield 90, 3) := dk_180 0 90 (dk_at dksX0_look_5 20 rfl rfl)
theorem dX0_look_203 : decode cX0_look 203 = .ok (.ireturn, 1) := dk_172 (dk_at dksX0_look_5 23 rfl rfl)
theorem dX0_look_204 : decode cX0_look 204 = .ok (.aload_n 0, 1) := dk_42 (dk_at dksX0_look_6 0 rfl rfl)
theorem dX0_look_205 : decode cX0_look 205 = .ok (.getfield 20, 3) := dk_180 0 20 (dk_at dksX0_look_6 1 rfl rfl)
theorem dX0_look_208 : decode cX0_look 208 = .ok (.getfield 138, 3) := dk_180 0 138 (dk_at dksX0_look_6 4 rfl rfl)
theorem dX0_look_211 : decode cX0_look 211 = .ok (.ireturn, 1) := dk_172 (dk_at dksX0_look_6 7 rfl rfl)
theorem dX0_look_212 : decode cX0_look 212 = .ok (.aload_n 0, 1) := dk_42 (dk_at dksX0_look_6 8 rfl rfl)
theorem dX0_look_213 : decode cX0_look 213 = .ok (.getfield 20, 3) := dk_180 0 20 (dk_at dksX0_look_6 9 rfl rfl)
theorem dX0_look_216 : decode cX0_look 216 = .ok (.getfield 141, 3) := dk_180 0 141 (dk_at dksX0_look_6 12 rfl rfl)
theorem dX0_look_219 : decode cX0_look 219 = .ok (.ireturn, 1) := dk_172 (dk_at dksX0_look_6 15 rfl rfl)
theorem dX0_look_220 : decode cX0_look 220 = .ok (.aload_n 0, 1) := dk_42 (dk_at dksX0_look_6 16 rfl rfl)
theorem dX0_look_221 : decode cX0_look 221 = .ok (.getfield 20, 3) := dk_180 0 20 (dk_at dksX0_look_6 17 rfl rfl)
theorem dX0_look_224 : decode cX0_look 224 = .ok (.getfield 144, 3) := dk_180 0 144 (dk_at dksX0_look_6 20 rfl rfl)
theorem dX0_look_227 : decode cX0_look 227 = .ok (.ireturn, 1) := dk_172 (dk_at dksX0_look_6 23 rfl rfl)
theorem dX0_look_228 : decode cX0_look 228 = .ok (.iconst (-1), 1) := dk_2 (dk_at dksX0_look_7 0 rfl rfl)
theorem dX0_look_229 : decode cX0_look 229 = .ok (.ireturn, 1) := dk_172 (dk_at dksX0_look_7 1 rfl rfl)
theorem q91 : (Jvm.Cond.initialized "LastWordWood") ∈ lw_all := lw_g (lw_at lw_m1 1 rfl) rfl
theorem q119 : (Jvm.Cond.instantiable "LastWordWood" (12 : Nat)) ∈ lw_all := lw_g (lw_at lw_m1 29 rfl) rfl
theorem q121 : (Jvm.Cond.instanceMethod ({ cls := "LastWordWood", name := "<init>", desc := "()V" } : Jvm.MethodName)) ∈ lw_all := lw_g (lw_at lw_m1 31 rfl) rfl
theorem q122 : (Jvm.Cond.code ({ cls := "LastWordWood", name := "<init>", desc := "()V" } : Jvm.MethodName) prog_1_method_1_code (2 : Nat) (Option.none : Option Jvm.ClassFile.FieldType)) ∈ lw_all := lw_g (lw_at lw_m1 32 rfl) rfl
theorem q123 : (Jvm.Cond.methodLink "LastWordWood" (1 : Nat) ({ cls := "java/lang/Object", name := "<init>", desc := "()V" } : Jvm.MethodName)) ∈ lw_all := lw_g (lw_at lw_m1 33 rfl) rfl
theorem q126 : (Jvm.Cond.classLink "LastWordWood" (17 : Nat) "LastWordWood$Wood") ∈ lw_all := lw_g (lw_at lw_m1 36 rfl) rfl
theorem q128 : (Jvm.Cond.methodLink "LastWordWood" (19 : Nat) ({ cls := "LastWordWood$Wood", name := "<init>", desc := "()V" } : Jvm.MethodName)) ∈ lw_all := lw_g (lw_at lw_m1 38 rfl) rfl
theorem q170 : (Jvm.Cond.fieldLinkNest "LastWordWood" (204 : Nat) "LastWordWood$Person" "basket" "[I" "LastWordWood") ∈ lw_tbl := lw_at lw_m1 80 rfl
theorem q172 : (Jvm.Cond.fieldLinkNest "LastWordWood" (150 : Nat) "LastWordWood$Person" "cell" "I" "LastWordWood") ∈ lw_tbl := lw_at lw_m1 82 rfl
theorem q175 : (Jvm.Cond.fieldLinkNest "LastWordWood" (190 : Nat) "LastWordWood$Person" "sick" "I" "LastWordWood") ∈ lw_tbl := lw_at lw_m1 85 rfl
theorem q177 : (Jvm.Cond.fieldLinkNest "LastWordWood" (207 : Nat) "LastWordWood$Person" "sizes" "I" "LastWordWood") ∈ lw_tbl := lw_at lw_m1 87 rfl
theorem q192 : (Jvm.Cond.fieldLinkNest "LastWordWood" (118 : Nat) "LastWordWood$Wood" "damp" "[I" "LastWordWood") ∈ lw_tbl := lw_at lw_m1 102 rfl
theorem q194 : (Jvm.Cond.fieldLinkNest "LastWordWood" (171 : Nat) "LastWordWood$Wood" "word" "[I" "LastWordWood") ∈ lw_tbl := lw_at lw_m1 104 rfl
theorem q196 : (Jvm.Cond.fieldLinkNest "LastWordWood" (173 : Nat) "LastWordWood$Wood" "size" "[I" "LastWordWood") ∈ lw_tbl := lw_at lw_m1 106 rfl
theorem q198 : (Jvm.Cond.fieldLinkNest "LastWordWood" (175 : Nat) "LastWordWood$Wood" "came" "[I" "LastWordWood") ∈ lw_tbl := lw_at lw_m1 108 rfl
theorem q200 : (Jvm.Cond.fieldLinkNest "LastWordWood" (181 : Nat) "LastWordWood$Wood" "by" "[I" "LastWordWood") ∈ lw_tbl := lw_at lw_m1 110 rfl
theorem q203 : (Jvm.Cond.fieldLinkNest "LastWordWood" (121 : Nat) "LastWordWood$Wood" "worth" "[I" "LastWordWood") ∈ lw_tbl := lw_at lw_m1 113 rfl
theorem q205 : (Jvm.Cond.fieldLinkNest "LastWordWood" (124 : Nat) "LastWordWood$Wood" "poison" "[I" "LastWordWood") ∈ lw_tbl := lw_at lw_m1 115 rfl
theorem q207 : (Jvm.Cond.fieldLinkNest "LastWordWood" (127 : Nat) "LastWordWood$Wood" "cures" "[I" "LastWordWood") ∈ lw_tbl := lw_at lw_m1 117 rfl
theorem q209 : (Jvm.Cond.fieldLinkNest "LastWordWood" (187 : Nat) "LastWordWood$Wood" "book" "[[I" "LastWordWood") ∈ lw_tbl := lw_at lw_m1 119 rfl
theorem q211 : (Jvm.Cond.fieldLinkNest "LastWordWood" (130 : Nat) "LastWordWood$Wood" "people" "[LLastWordWood$Person;" "LastWordWood") ∈ lw_tbl := lw_at lw_m1 121 rfl
theorem q213 : (Jvm.Cond.fieldLinkNest "LastWordWood" (66 : Nat) "LastWordWood$Wood" "law" "Ljava/util/ArrayList;" "LastWordWood") ∈ lw_tbl := lw_at lw_m1 123 rfl
theorem q215 : (Jvm.Cond.fieldLinkNest "LastWordWood" (153 : Nat) "LastWordWood$Wood" "w" "I" "LastWordWood") ∈ lw_tbl := lw_at lw_m1 125 rfl
theorem q217 : (Jvm.Cond.fieldLinkNest "LastWordWood" (156 : Nat) "LastWordWood$Wood" "h" "I" "LastWordWood") ∈ lw_tbl := lw_at lw_m1 127 rfl
theorem q219 : (Jvm.Cond.fieldLinkNest "LastWordWood" (178 : Nat) "LastWordWood$Wood" "day" "I" "LastWordWood") ∈ lw_tbl := lw_at lw_m1 129 rfl
theorem q221 : (Jvm.Cond.fieldLinkNest "LastWordWood" (100 : Nat) "LastWordWood$Wood" "words" "I" "LastWordWood") ∈ lw_tbl := lw_at lw_m1 131 rfl
theorem q223 : (Jvm.Cond.fieldLinkNest "LastWordWood" (93 : Nat) "LastWordWood$Wood" "many" "I" "LastWordWood") ∈ lw_tbl := lw_at lw_m1 133 rfl
theorem q225 : (Jvm.Cond.fieldLinkNest "LastWordWood" (184 : Nat) "LastWordWood$Wood" "lines" "I" "LastWordWood") ∈ lw_tbl := lw_at lw_m1 135 rfl
theorem q227 : (Jvm.Cond.fieldLinkNest "LastWordWood" (103 : Nat) "LastWordWood$Wood" "state" "I" "LastWordWood") ∈ lw_tbl := lw_at lw_m1 137 rfl
theorem q229 : (Jvm.Cond.fieldLinkNest "LastWordWood" (165 : Nat) "LastWordWood$Wood" "frozen" "I" "LastWordWood") ∈ lw_tbl := lw_at lw_m1 139 rfl
theorem q231 : (Jvm.Cond.fieldLinkNest "LastWordWood" (197 : Nat) "LastWordWood$Wood" "asked" "I" "LastWordWood") ∈ lw_tbl := lw_at lw_m1 141 rfl
theorem q233 : (Jvm.Cond.fieldLinkNest "LastWordWood" (138 : Nat) "LastWordWood$Wood" "rain" "I" "LastWordWood") ∈ lw_tbl := lw_at lw_m1 143 rfl
theorem q235 : (Jvm.Cond.fieldLinkNest "LastWordWood" (141 : Nat) "LastWordWood$Wood" "frost" "I" "LastWordWood") ∈ lw_tbl := lw_at lw_m1 145 rfl
theorem q237 : (Jvm.Cond.fieldLinkNest "LastWordWood" (144 : Nat) "LastWordWood$Wood" "deer" "I" "LastWordWood") ∈ lw_tbl := lw_at lw_m1 147 rfl
theorem q291 : (Jvm.Cond.classLink "LastWordWood" (34 : Nat) "[[I") ∈ lw_all := lw_g (lw_at lw_m1 201 rfl) rfl
theorem q292 : (Jvm.Cond.fieldLink "LastWordWood" (9 : Nat) "LastWordWood" "tape" "[B") ∈ lw_all := lw_g (lw_at lw_m1 202 rfl) rfl
theorem q295 : (Jvm.Cond.fieldLink "LastWordWood" (43 : Nat) "LastWordWood" "taped" "I") ∈ lw_all := lw_g (lw_at lw_m1 205 rfl) rfl
theorem q296 : (Jvm.Cond.fieldLink "LastWordWood" (54 : Nat) "LastWordWood" "faultKind" "I") ∈ lw_all := lw_g (lw_at lw_m1 206 rfl) rfl
theorem q297 : (Jvm.Cond.fieldLink "LastWordWood" (13 : Nat) "LastWordWood" "faultPlace" "I") ∈ lw_all := lw_g (lw_at lw_m1 207 rfl) rfl
theorem q298 : (Jvm.Cond.fieldLink "LastWordWood" (20 : Nat) "LastWordWood" "wood" "LLastWordWood$Wood;") ∈ lw_all := lw_g (lw_at lw_m1 208 rfl) rfl
theorem q299 : (Jvm.Cond.fieldLink "LastWordWood" (24 : Nat) "LastWordWood" "kept" "LLastWordWood$Wood;") ∈ lw_all := lw_g (lw_at lw_m1 209 rfl) rfl
theorem q300 : (Jvm.Cond.fieldLink "LastWordWood" (27 : Nat) "LastWordWood" "thought" "LLastWordWood$Wood;") ∈ lw_all := lw_g (lw_at lw_m1 210 rfl) rfl
theorem q301 : (Jvm.Cond.fieldLink "LastWordWood" (30 : Nat) "LastWordWood" "back" "[LLastWordWood$Wood;") ∈ lw_all := lw_g (lw_at lw_m1 211 rfl) rfl
theorem q302 : (Jvm.Cond.fieldLink "LastWordWood" (90 : Nat) "LastWordWood" "backMany" "I") ∈ lw_all := lw_g (lw_at lw_m1 212 rfl) rfl
theorem q303 : (Jvm.Cond.fieldLink "LastWordWood" (256 : Nat) "LastWordWood" "hasImage" "Z") ∈ lw_all := lw_g (lw_at lw_m1 213 rfl) rfl
theorem q304 : (Jvm.Cond.fieldLink "LastWordWood" (36 : Nat) "LastWordWood" "rest" "[[I") ∈ lw_all := lw_g (lw_at lw_m1 214 rfl) rfl
theorem q305 : (Jvm.Cond.fieldLink "LastWordWood" (39 : Nat) "LastWordWood" "spice" "[I") ∈ lw_all := lw_g (lw_at lw_m1 215 rfl) rfl
theorem q306 : (Jvm.Cond.laysFinal "LastWordWood" "LastWordWood" "tape" "[B") ∈ lw_all := lw_g (lw_at lw_m1 216 rfl) rfl
theorem q307 : (Jvm.Cond.soleField "LastWordWood" "tape") ∈ lw_all := lw_g (lw_at lw_m1 217 rfl) rfl
theorem q308 : (Jvm.Cond.lays "LastWordWood" "LastWordWood" "taped" "I") ∈ lw_all := lw_g (lw_at lw_m1 218 rfl) rfl
theorem q309 : (Jvm.Cond.soleField "LastWordWood" "taped") ∈ lw_all := lw_g (lw_at lw_m1 219 rfl) rfl
theorem q310 : (Jvm.Cond.lays "LastWordWood" "LastWordWood" "faultKind" "I") ∈ lw_all := lw_g (lw_at lw_m1 220 rfl) rfl
theorem q311 : (Jvm.Cond.soleField "LastWordWood" "faultKind") ∈ lw_all := lw_g (lw_at lw_m1 221 rfl) rfl
theorem q312 : (Jvm.Cond.lays "LastWordWood" "LastWordWood" "faultPlace" "I") ∈ lw_all := lw_g (lw_at lw_m1 222 rfl) rfl
theorem q313 : (Jvm.Cond.soleField "LastWordWood" "faultPlace") ∈ lw_all := lw_g (lw_at lw_m1 223 rfl) rfl
theorem q314 : (Jvm.Cond.laysFinal "LastWordWood" "LastWordWood" "wood" "LLastWordWood$Wood;") ∈ lw_all := lw_g (lw_at lw_m1 224 rfl) rfl
theorem q315 : (Jvm.Cond.soleField "LastWordWood" "wood") ∈ lw_all := lw_g (lw_at lw_m1 225 rfl) rfl
theorem q316 : (Jvm.Cond.laysFinal "LastWordWood" "LastWordWood" "kept" "LLastWordWood$Wood;") ∈ lw_all := lw_g (lw_at lw_m1 226 rfl) rfl
theorem q317 : (Jvm.Cond.soleField "LastWordWood" "kept") ∈ lw_all := lw_g (lw_at lw_m1 227 rfl) rfl
theorem q318 : (Jvm.Cond.laysFinal "LastWordWood" "LastWordWood" "thought" "LLastWordWood$Wood;") ∈ lw_all := lw_g (lw_at lw_m1 228 rfl) rfl
theorem q319 : (Jvm.Cond.soleField "LastWordWood" "thought") ∈ lw_all := lw_g (lw_at lw_m1 229 rfl) rfl
theorem q320 : (Jvm.Cond.laysFinal "LastWordWood" "LastWordWood" "back" "[LLastWordWood$Wood;") ∈ lw_all := lw_g (lw_at lw_m1 230 rfl) rfl
theorem q321 : (Jvm.Cond.soleField "LastWordWood" "back") ∈ lw_all := lw_g (lw_at lw_m1 231 rfl) rfl
theorem q322 : (Jvm.Cond.lays "LastWordWood" "LastWordWood" "backMany" "I") ∈ lw_all := lw_g (lw_at lw_m1 232 rfl) rfl
theorem q323 : (Jvm.Cond.soleField "LastWordWood" "backMany") ∈ lw_all := lw_g (lw_at lw_m1 233 rfl) rfl
theorem q324 : (Jvm.Cond.lays "LastWordWood" "LastWordWood" "hasImage" "Z") ∈ lw_all := lw_g (lw_at lw_m1 234 rfl) rfl
theorem q325 : (Jvm.Cond.soleField "LastWordWood" "hasImage") ∈ lw_all := lw_g (lw_at lw_m1 235 rfl) rfl
theorem q326 : (Jvm.Cond.laysFinal "LastWordWood" "LastWordWood" "rest" "[[I") ∈ lw_all := lw_g (lw_at lw_m1 236 rfl) rfl
theorem q327 : (Jvm.Cond.soleField "LastWordWood" "rest") ∈ lw_all := lw_g (lw_at lw_m1 237 rfl) rfl
theorem q328 : (Jvm.Cond.laysFinal "LastWordWood" "LastWordWood" "spice" "[I") ∈ lw_all := lw_g (lw_at lw_m1 238 rfl) rfl
theorem q329 : (Jvm.Cond.soleField "LastWordWood" "spice") ∈ lw_all := lw_g (lw_at lw_m1 239 rfl) rfl
theorem q330 : (Jvm.Cond.superclass "LastWordWood" "java/lang/Object") ∈ lw_all := lw_g (lw_at lw_m2 0 rfl) rfl
theorem q332 : (Jvm.Cond.instanceMethod ({ cls := "LastWordWood", name := "feed", desc := "(IIIII)I" } : Jvm.MethodName)) ∈ lw_all := lw_g (lw_at lw_m2 2 rfl) rfl
theorem q333 : (Jvm.Cond.selects "LastWordWood" ({ cls := "LastWordWood", name := "feed", desc := "(IIIII)I" } : Jvm.MethodName) ({ cls := "LastWordWood", name := "feed", desc := "(IIIII)I" } : Jvm.MethodName)) ∈ lw_all := lw_g (lw_at lw_m2 3 rfl) rfl
theorem q334 : (Jvm.Cond.code ({ cls := "LastWordWood", name := "feed", desc := "(IIIII)I" } : Jvm.MethodName) prog_1_method_3_code (6 : Nat) (Option.some Jvm.ClassFile.FieldType.int)) ∈ lw_all := lw_g (lw_at lw_m2 4 rfl) rfl
theorem q335 : (Jvm.Cond.methodLink "LastWordWood" (46 : Nat) ({ cls := "LastWordWood", name := "word", desc := "(I)V" } : Jvm.MethodName)) ∈ lw_all := lw_g (lw_at lw_m2 5 rfl) rfl
theorem q336 : (Jvm.Cond.privateMethod ({ cls := "LastWordWood", name := "word", desc := "(I)V" } : Jvm.MethodName)) ∈ lw_tbl := lw_at lw_m2 6 rfl
theorem q337 : (Jvm.Cond.instanceMethod ({ cls := "LastWordWood", name := "word", desc := "(I)V" } : Jvm.MethodName)) ∈ lw_all := lw_g (lw_at lw_m2 7 rfl) rfl
theorem q338 : (Jvm.Cond.code ({ cls := "LastWordWood", name := "word", desc := "(I)V" } : Jvm.MethodName) prog_1_method_4_code (3 : Nat) (Option.none : Option Jvm.ClassFile.FieldType)) ∈ lw_all := lw_g (lw_at lw_m2 8 rfl) rfl
theorem q340 : (Jvm.Cond.instanceMethod ({ cls := "LastWordWood", name := "end", desc := "(I)Z" } : Jvm.MethodName)) ∈ lw_all := lw_g (lw_at lw_m2 10 rfl) rfl
theorem q341 : (Jvm.Cond.selects "LastWordWood" ({ cls := "LastWordWood", name := "end", desc := "(I)Z" } : Jvm.MethodName) ({ cls := "LastWordWood", name := "end", desc := "(I)Z" } : Jvm.MethodName)) ∈ lw_all := lw_g (lw_at lw_m2 11 rfl) rfl
theorem q342 : (Jvm.Cond.code ({ cls := "LastWordWood", name := "end", desc := "(I)Z" } : Jvm.MethodName) prog_1_method_5_code (2 : Nat) (Option.some Jvm.ClassFile.FieldType.boolean)) ∈ lw_all := lw_g (lw_at lw_m2 12 rfl) rfl
theorem q343 : (Jvm.Cond.methodLink "LastWordWood" (50 : Nat) ({ cls := "LastWordWood", name := "isIn", desc := "(III)Z" } : Jvm.MethodName)) ∈ lw_all := lw_g (lw_at lw_m2 13 rfl) rfl
theorem q344 : (Jvm.Cond.static ({ cls := "LastWordWood", name := "isIn", desc := "(III)Z" } : Jvm.MethodName)) ∈ lw_all := lw_g (lw_at lw_m2 14 rfl) rfl
theorem q345 : (Jvm.Cond.code ({ cls := "LastWordWood", name := "isIn", desc := "(III)Z" } : Jvm.MethodName) prog_1_method_2_code (3 : Nat) (Option.some Jvm.ClassFile.FieldType.boolean)) ∈ lw_all := lw_g (lw_at lw_m2 15 rfl) rfl
theorem q347 : (Jvm.Cond.instanceMethod ({ cls := "LastWordWood", name := "text", desc := "()I" } : Jvm.MethodName)) ∈ lw_all := lw_g (lw_at lw_m2 17 rfl) rfl
theorem q348 : (Jvm.Cond.selects "LastWordWood" ({ cls := "LastWordWood", name := "text", desc := "()I" } : Jvm.MethodName) ({ cls := "LastWordWood", name := "text", desc := "()I" } : Jvm.MethodName)) ∈ lw_all := lw_g (lw_at lw_m2 18 rfl) rfl
theorem q349 : (Jvm.Cond.codeWith ({ cls := "LastWordWood", name := "text", desc := "()I" } : Jvm.MethodName) prog_1_method_6_code (4 : Nat) (Option.some Jvm.ClassFile.FieldType.int) [((10 : Nat), (39 : Nat), (46 : Nat), (76 : Nat)), ((10 : Nat), (39 : Nat), (72 : Nat), (0 : Nat)), ((46 : Nat), (65 : Nat), (72 : Nat), (0 : Nat))]) ∈ lw_all := lw_g (lw_at lw_m2 19 rfl) rfl
theorem q350 : (Jvm.Cond.classLink "LastWordWood" (76 : Nat) "LastWordWood$Fault") ∈ lw_all := lw_g (lw_at lw_m2 20 rfl) rfl
theorem q351 : (Jvm.Cond.classLink "LastWordWood" (57 : Nat) "LastWordWood$Reader") ∈ lw_all := lw_g (lw_at lw_m2 21 rfl) rfl
theorem q353 : (Jvm.Cond.methodLinkNest "LastWordWood" (59 : Nat) ({ cls := "LastWordWood$Reader", name := "<init>", desc := "(LLastWordWood;)V" } : Jvm.MethodName) "LastWordWood") ∈ lw_tbl := lw_at lw_m2 23 rfl
theorem q376 : (Jvm.Cond.methodLink "LastWordWood" (62 : Nat) ({ cls := "LastWordWood$Reader", name := "read", desc := "()Ljava/util/ArrayList;" } : Jvm.MethodName)) ∈ lw_all := lw_g (lw_at lw_m2 46 rfl) rfl
theorem q522 : (Jvm.Cond.fieldLinkNest "LastWordWood" (78 : Nat) "LastWordWood$Fault" "kind" "I" "LastWordWood") ∈ lw_tbl := lw_at lw_m2 192 rfl
theorem q524 : (Jvm.Cond.fieldLinkNest "LastWordWood" (81 : Nat) "LastWordWood$Fault" "place" "I" "LastWordWood") ∈ lw_tbl := lw_at lw_m2 194 rfl
theorem q677 : (Jvm.Cond.selects "LastWordWood" ({ cls := "java/lang/Object", name := "getClass", desc := "()Ljava/lang/Class;" } : Jvm.MethodName) ({ cls := "java/lang/Object", name := "getClass", desc := "()Ljava/lang/Class;" } : Jvm.MethodName)) ∈ lw_all := lw_g (lw_at lw_m3 107 rfl) rfl
theorem q704 : (Jvm.Cond.methodLink "LastWordWood" (70 : Nat) ({ cls := "java/util/ArrayList", name := "size", desc := "()I" } : Jvm.MethodName)) ∈ lw_all := lw_g (lw_at lw_m3 134 rfl) rfl
theorem q706 : (Jvm.Cond.instanceMethod ({ cls := "LastWordWood", name := "fault", desc := "(I)I" } : Jvm.MethodName)) ∈ lw_all := lw_g (lw_at lw_m3 136 rfl) rfl
theorem q707 : (Jvm.Cond.selects "LastWordWood" ({ cls := "LastWordWood", name := "fault", desc := "(I)I" } : Jvm.MethodName) ({ cls := "LastWordWood", name := "fault", desc := "(I)I" } : Jvm.MethodName)) ∈ lw_all := lw_g (lw_at lw_m3 137 rfl) rfl
theorem q708 : (Jvm.Cond.code ({ cls := "LastWordWood", name := "fault", desc := "(I)I" } : Jvm.MethodName) prog_1_method_7_code (2 : Nat) (Option.some Jvm.ClassFile.FieldType.int)) ∈ lw_all := lw_g (lw_at lw_m3 138 rfl) rfl
theorem q710 : (Jvm.Cond.instanceMethod ({ cls := "LastWordWood", name := "undo", desc := "()Z" } : Jvm.MethodName)) ∈ lw_all := lw_g (lw_at lw_m3 140 rfl) rfl
theorem q711 : (Jvm.Cond.selects "LastWordWood" ({ cls := "LastWordWood", name := "undo", desc := "()Z" } : Jvm.MethodName) ({ cls := "LastWordWood", name := "undo", desc := "()Z" } : Jvm.MethodName)) ∈ lw_all := lw_g (lw_at lw_m3 141 rfl) rfl
theorem q712 : (Jvm.Cond.code ({ cls := "LastWordWood", name := "undo", desc := "()Z" } : Jvm.MethodName) prog_1_method_11_code (1 : Nat) (Option.some Jvm.ClassFile.FieldType.boolean)) ∈ lw_all := lw_g (lw_at lw_m3 142 rfl) rfl
theorem q713 : (Jvm.Cond.methodLink "LastWordWood" (96 : Nat) ({ cls := "LastWordWood$Wood", name := "moves", desc := "(LLastWordWood$Wood;)V" } : Jvm.MethodName)) ∈ lw_all := lw_g (lw_at lw_m3 143 rfl) rfl
theorem q722 : (Jvm.Cond.instanceMethod ({ cls := "LastWordWood", name := "state", desc := "(I)I" } : Jvm.MethodName)) ∈ lw_all := lw_g (lw_at lw_m3 152 rfl) rfl
theorem q723 : (Jvm.Cond.selects "LastWordWood" ({ cls := "LastWordWood", name := "state", desc := "(I)I" } : Jvm.MethodName) ({ cls := "LastWordWood", name := "state", desc := "(I)I" } : Jvm.MethodName)) ∈ lw_all := lw_g (lw_at lw_m3 153 rfl) rfl
theorem q724 : (Jvm.Cond.code ({ cls := "LastWordWood", name := "state", desc := "(I)I" } : Jvm.MethodName) prog_1_method_14_code (3 : Nat) (Option.some Jvm.ClassFile.FieldType.int)) ∈ lw_all := lw_g (lw_at lw_m3 154 rfl) rfl
theorem q726 : (Jvm.Cond.instanceMethod ({ cls := "LastWordWood", name := "wood", desc := "(II)Z" } : Jvm.MethodName)) ∈ lw_all := lw_g (lw_at lw_m3 156 rfl) rfl
theorem q727 : (Jvm.Cond.selects "LastWordWood" ({ cls := "LastWordWood", name := "wood", desc := "(II)Z" } : Jvm.MethodName) ({ cls := "LastWordWood", name := "wood", desc := "(II)Z" } : Jvm.MethodName)) ∈ lw_all := lw_g (lw_at lw_m3 157 rfl) rfl
theorem q728 : (Jvm.Cond.code ({ cls := "LastWordWood", name := "wood", desc := "(II)Z" } : Jvm.MethodName) prog_1_method_15_code (3 : Nat) (Option.some Jvm.ClassFile.FieldType.boolean)) ∈ lw_all := lw_g (lw_at lw_m3 158 rfl) rfl
theorem q729 : (Jvm.Cond.methodLink "LastWordWood" (106 : Nat) ({ cls := "LastWordWood$Wood", name := "begins", desc := "(II)V" } : Jvm.MethodName)) ∈ lw_all := lw_g (lw_at lw_m3 159 rfl) rfl
theorem q730 : (Jvm.Cond.methodLink "LastWordWood" (110 : Nat) ({ cls := "LastWordWood", name := "forgets", desc := "()Z" } : Jvm.MethodName)) ∈ lw_all := lw_g (lw_at lw_m3 160 rfl) rfl
theorem q731 : (Jvm.Cond.privateMethod ({ cls := "LastWordWood", name := "forgets", desc := "()Z" } : Jvm.MethodName)) ∈ lw_tbl := lw_at lw_m3 161 rfl
theorem q732 : (Jvm.Cond.instanceMethod ({ cls := "LastWordWood", name := "forgets", desc := "()Z" } : Jvm.MethodName)) ∈ lw_all := lw_g (lw_at lw_m3 162 rfl) rfl
theorem q733 : (Jvm.Cond.code ({ cls := "LastWordWood", name := "forgets", desc := "()Z" } : Jvm.MethodName) prog_1_method_9_code (1 : Nat) (Option.some Jvm.ClassFile.FieldType.boolean)) ∈ lw_all := lw_g (lw_at lw_m3 163 rfl) rfl
theorem q735 : (Jvm.Cond.instanceMethod ({ cls := "LastWordWood", name := "damp", desc := "(II)Z" } : Jvm.MethodName)) ∈ lw_all := lw_g (lw_at lw_m3 165 rfl) rfl
theorem q736 : (Jvm.Cond.selects "LastWordWood" ({ cls := "LastWordWood", name := "damp", desc := "(II)Z" } : Jvm.MethodName) ({ cls := "LastWordWood", name := "damp", desc := "(II)Z" } : Jvm.MethodName)) ∈ lw_all := lw_g (lw_at lw_m3 166 rfl) rfl
theorem q737 : (Jvm.Cond.code ({ cls := "LastWordWood", name := "damp", desc := "(II)Z" } : Jvm.MethodName) prog_1_method_16_code (3 : Nat) (Option.some Jvm.ClassFile.FieldType.boolean)) ∈ lw_all := lw_g (lw_at lw_m3 167 rfl) rfl
theorem q738 : (Jvm.Cond.methodLink "LastWordWood" (114 : Nat) ({ cls := "LastWordWood$Wood", name := "isCell", desc := "(I)Z" } : Jvm.MethodName)) ∈ lw_all := lw_g (lw_at lw_m3 168 rfl) rfl
theorem q744 : (Jvm.Cond.instanceMethod ({ cls := "LastWordWood", name := "word", desc := "(III)I" } : Jvm.MethodName)) ∈ lw_all := lw_g (lw_at lw_m3 174 rfl) rfl
theorem q745 : (Jvm.Cond.selects "LastWordWood" ({ cls := "LastWordWood", name := "word", desc := "(III)I" } : Jvm.MethodName) ({ cls := "LastWordWood", name := "word", desc := "(III)I" } : Jvm.MethodName)) ∈ lw_all := lw_g (lw_at lw_m3 175 rfl) rfl
theorem q746 : (Jvm.Cond.code ({ cls := "LastWordWood", name := "word", desc := "(III)I" } : Jvm.MethodName) prog_1_method_17_code (5 : Nat) (Option.some Jvm.ClassFile.FieldType.int)) ∈ lw_all := lw_g (lw_at lw_m3 176 rfl) rfl
theorem q748 : (Jvm.Cond.instanceMethod ({ cls := "LastWordWood", name := "person", desc := "(I)I" } : Jvm.MethodName)) ∈ lw_all := lw_g (lw_at lw_m3 178 rfl) rfl
theorem q749 : (Jvm.Cond.selects "LastWordWood" ({ cls := "LastWordWood", name := "person", desc := "(I)I" } : Jvm.MethodName) ({ cls := "LastWordWood", name := "person", desc := "(I)I" } : Jvm.MethodName)) ∈ lw_all := lw_g (lw_at lw_m3 179 rfl) rfl
theorem q750 : (Jvm.Cond.code ({ cls := "LastWordWood", name := "person", desc := "(I)I" } : Jvm.MethodName) prog_1_method_18_code (2 : Nat) (Option.some Jvm.ClassFile.FieldType.int)) ∈ lw_all := lw_g (lw_at lw_m3 180 rfl) rfl
theorem q751 : (Jvm.Cond.methodLink "LastWordWood" (134 : Nat) ({ cls := "LastWordWood$Person", name := "begins", desc := "(I)V" } : Jvm.MethodName)) ∈ lw_all := lw_g (lw_at lw_m3 181 rfl) rfl
theorem q756 : (Jvm.Cond.instanceMethod ({ cls := "LastWordWood", name := "set", desc := "(II)Z" } : Jvm.MethodName)) ∈ lw_all := lw_g (lw_at lw_m3 186 rfl) rfl
theorem q757 : (Jvm.Cond.selects "LastWordWood" ({ cls := "LastWordWood", name := "set", desc := "(II)Z" } : Jvm.MethodName) ({ cls := "LastWordWood", name := "set", desc := "(II)Z" } : Jvm.MethodName)) ∈ lw_all := lw_g (lw_at lw_m3 187 rfl) rfl
theorem q758 : (Jvm.Cond.code ({ cls := "LastWordWood", name := "set", desc := "(II)Z" } : Jvm.MethodName) prog_1_method_19_code (3 : Nat) (Option.some Jvm.ClassFile.FieldType.boolean)) ∈ lw_all := lw_g (lw_at lw_m3 188 rfl) rfl
theorem q760 : (Jvm.Cond.instanceMethod ({ cls := "LastWordWood", name := "go", desc := "(III)Z" } : Jvm.MethodName)) ∈ lw_all := lw_g (lw_at lw_m3 190 rfl) rfl
theorem q761 : (Jvm.Cond.selects "LastWordWood" ({ cls := "LastWordWood", name := "go", desc := "(III)Z" } : Jvm.MethodName) ({ cls := "LastWordWood", name := "go", desc := "(III)Z" } : Jvm.MethodName)) ∈ lw_all := lw_g (lw_at lw_m3 191 rfl) rfl
theorem q762 : (Jvm.Cond.code ({ cls := "LastWordWood", name := "go", desc := "(III)Z" } : Jvm.MethodName) prog_1_method_20_code (7 : Nat) (Option.some Jvm.ClassFile.FieldType.boolean)) ∈ lw_all := lw_g (lw_at lw_m3 192 rfl) rfl
theorem q763 : (Jvm.Cond.methodLink "LastWordWood" (147 : Nat) ({ cls := "LastWordWood", name := "isPerson", desc := "(I)Z" } : Jvm.MethodName)) ∈ lw_all := lw_g (lw_at lw_m3 193 rfl) rfl
theorem q764 : (Jvm.Cond.privateMethod ({ cls := "LastWordWood", name := "isPerson", desc := "(I)Z" } : Jvm.MethodName)) ∈ lw_tbl := lw_at lw_m3 194 rfl
theorem q765 : (Jvm.Cond.instanceMethod ({ cls := "LastWordWood", name := "isPerson", desc := "(I)Z" } : Jvm.MethodName)) ∈ lw_all := lw_g (lw_at lw_m3 195 rfl) rfl
theorem q766 : (Jvm.Cond.code ({ cls := "LastWordWood", name := "isPerson", desc := "(I)Z" } : Jvm.MethodName) prog_1_method_12_code (2 : Nat) (Option.some Jvm.ClassFile.FieldType.boolean)) ∈ lw_all := lw_g (lw_at lw_m3 196 rfl) rfl
theorem q767 : (Jvm.Cond.methodLink "LastWordWood" (159 : Nat) ({ cls := "LastWordWood", name := "keeps", desc := "()Z" } : Jvm.MethodName)) ∈ lw_all := lw_g (lw_at lw_m3 197 rfl) rfl
theorem q768 : (Jvm.Cond.privateMethod ({ cls := "LastWordWood", name := "keeps", desc := "()Z" } : Jvm.MethodName)) ∈ lw_tbl := lw_at lw_m3 198 rfl
theorem q769 : (Jvm.Cond.instanceMethod ({ cls := "LastWordWood", name := "keeps", desc := "()Z" } : Jvm.MethodName)) ∈ lw_all := lw_g (lw_at lw_m3 199 rfl) rfl
theorem q770 : (Jvm.Cond.code ({ cls := "LastWordWood", name := "keeps", desc := "()Z" } : Jvm.MethodName) prog_1_method_10_code (3 : Nat) (Option.some Jvm.ClassFile.FieldType.boolean)) ∈ lw_all := lw_g (lw_at lw_m3 200 rfl) rfl
theorem q772 : (Jvm.Cond.instanceMethod ({ cls := "LastWordWood", name := "breaks", desc := "(II)Z" } : Jvm.MethodName)) ∈ lw_all := lw_g (lw_at lw_m3 202 rfl) rfl
theorem q773 : (Jvm.Cond.selects "LastWordWood" ({ cls := "LastWordWood", name := "breaks", desc := "(II)Z" } : Jvm.MethodName) ({ cls := "LastWordWood", name := "breaks", desc := "(II)Z" } : Jvm.MethodName)) ∈ lw_all := lw_g (lw_at lw_m3 203 rfl) rfl
theorem q774 : (Jvm.Cond.code ({ cls := "LastWordWood", name := "breaks", desc := "(II)Z" } : Jvm.MethodName) prog_1_method_21_code (5 : Nat) (Option.some Jvm.ClassFile.FieldType.boolean)) ∈ lw_all := lw_g (lw_at lw_m3 204 rfl) rfl
theorem q775 : (Jvm.Cond.methodLink "LastWordWood" (162 : Nat) ({ cls := "LastWordWood", name := "isWord", desc := "(I)Z" } : Jvm.MethodName)) ∈ lw_all := lw_g (lw_at lw_m3 205 rfl) rfl
theorem q776 : (Jvm.Cond.privateMethod ({ cls := "LastWordWood", name := "isWord", desc := "(I)Z" } : Jvm.MethodName)) ∈ lw_tbl := lw_at lw_m3 206 rfl
theorem q777 : (Jvm.Cond.instanceMethod ({ cls := "LastWordWood", name := "isWord", desc := "(I)Z" } : Jvm.MethodName)) ∈ lw_all := lw_g (lw_at lw_m3 207 rfl) rfl
theorem q778 : (Jvm.Cond.code ({ cls := "LastWordWood", name := "isWord", desc := "(I)Z" } : Jvm.MethodName) prog_1_method_13_code (2 : Nat) (Option.some Jvm.ClassFile.FieldType.boolean)) ∈ lw_all := lw_g (lw_at lw_m3 208 rfl) rfl
theorem q779 : (Jvm.Cond.methodLink "LastWordWood" (168 : Nat) ({ cls := "LastWordWood$Wood", name := "hasCap", desc := "(I)Z" } : Jvm.MethodName)) ∈ lw_all := lw_g (lw_at lw_m3 209 rfl) rfl
theorem q785 : (Jvm.Cond.instanceMethod ({ cls := "LastWordWood", name := "act", desc := "(II)Z" } : Jvm.MethodName)) ∈ lw_all := lw_g (lw_at lw_m3 215 rfl) rfl
theorem q786 : (Jvm.Cond.selects "LastWordWood" ({ cls := "LastWordWood", name := "act", desc := "(II)Z" } : Jvm.MethodName) ({ cls := "LastWordWood", name := "act", desc := "(II)Z" } : Jvm.MethodName)) ∈ lw_all := lw_g (lw_at lw_m3 216 rfl) rfl
theorem q787 : (Jvm.Cond.code ({ cls := "LastWordWood", name := "act", desc := "(II)Z" } : Jvm.MethodName) prog_1_method_23_code (4 : Nat) (Option.some Jvm.ClassFile.FieldType.boolean)) ∈ lw_all := lw_g (lw_at lw_m3 217 rfl) rfl
theorem q788 : (Jvm.Cond.methodLink "LastWordWood" (200 : Nat) ({ cls := "LastWordWood", name := "eats", desc := "(LLastWordWood$Person;I)V" } : Jvm.MethodName)) ∈ lw_all := lw_g (lw_at lw_m3 218 rfl) rfl
theorem q789 : (Jvm.Cond.privateMethod ({ cls := "LastWordWood", name := "eats", desc := "(LLastWordWood$Person;I)V" } : Jvm.MethodName)) ∈ lw_tbl := lw_at lw_m3 219 rfl
theorem q790 : (Jvm.Cond.instanceMethod ({ cls := "LastWordWood", name := "eats", desc := "(LLastWordWood$Person;I)V" } : Jvm.MethodName)) ∈ lw_all := lw_g (lw_at lw_m3 220 rfl) rfl
theorem q791 : (Jvm.Cond.code ({ cls := "LastWordWood", name := "eats", desc := "(LLastWordWood$Person;I)V" } : Jvm.MethodName) prog_1_method_22_code (4 : Nat) (Option.none : Option Jvm.ClassFile.FieldType)) ∈ lw_all := lw_g (lw_at lw_m3 221 rfl) rfl
theorem q792 : (Jvm.Cond.methodLink "LastWordWood" (193 : Nat) ({ cls := "java/lang/Math", name := "min", desc := "(II)I" } : Jvm.MethodName)) ∈ lw_all := lw_g (lw_at lw_m3 222 rfl) rfl
theorem q794 : (Jvm.Cond.instanceMethod ({ cls := "LastWordWood", name := "days", desc := "(I)I" } : Jvm.MethodName)) ∈ lw_all := lw_g (lw_at lw_m3 224 rfl) rfl
theorem q795 : (Jvm.Cond.selects "LastWordWood" ({ cls := "LastWordWood", name := "days", desc := "(I)I" } : Jvm.MethodName) ({ cls := "LastWordWood", name := "days", desc := "(I)I" } : Jvm.MethodName)) ∈ lw_all := lw_g (lw_at lw_m3 225 rfl) rfl
theorem q796 : (Jvm.Cond.code ({ cls := "LastWordWood", name := "days", desc := "(I)I" } : Jvm.MethodName) prog_1_method_24_code (4 : Nat) (Option.some Jvm.ClassFile.FieldType.int)) ∈ lw_all := lw_g (lw_at lw_m3 226 rfl) rfl
theorem q797 : (Jvm.Cond.methodLink "LastWordWood" (210 : Nat) ({ cls := "LastWordWood$Wood", name := "endsDay", desc := "()I" } : Jvm.MethodName)) ∈ lw_all := lw_g (lw_at lw_m3 227 rfl) rfl
theorem q851 : (Jvm.Cond.static ({ cls := "LastWordWood", name := "far", desc := "(II)I" } : Jvm.MethodName)) ∈ lw_all := lw_g (lw_at lw_m4 41 rfl) rfl
theorem q852 : (Jvm.Cond.code ({ cls := "LastWordWood", name := "far", desc := "(II)I" } : Jvm.MethodName) prog_1_method_8_code (2 : Nat) (Option.some Jvm.ClassFile.FieldType.int)) ∈ lw_all := lw_g (lw_at lw_m4 42 rfl) rfl
theorem q853 : (Jvm.Cond.methodLink "LastWordWood" (84 : Nat) ({ cls := "java/lang/Math", name := "abs", desc := "(I)I" } : Jvm.MethodName)) ∈ lw_all := lw_g (lw_at lw_m4 43 rfl) rfl
theorem q882 : (Jvm.Cond.instanceMethod ({ cls := "LastWordWood", name := "at", desc := "(II)I" } : Jvm.MethodName)) ∈ lw_all := lw_g (lw_at lw_m4 72 rfl) rfl
theorem q883 : (Jvm.Cond.selects "LastWordWood" ({ cls := "LastWordWood", name := "at", desc := "(II)I" } : Jvm.MethodName) ({ cls := "LastWordWood", name := "at", desc := "(II)I" } : Jvm.MethodName)) ∈ lw_all := lw_g (lw_at lw_m4 73 rfl) rfl
theorem q884 : (Jvm.Cond.code ({ cls := "LastWordWood", name := "at", desc := "(II)I" } : Jvm.MethodName) prog_1_method_25_code (3 : Nat) (Option.some Jvm.ClassFile.FieldType.int)) ∈ lw_all := lw_g (lw_at lw_m4 74 rfl) rfl
theorem q885 : (Jvm.Cond.methodLink "LastWordWood" (213 : Nat) ({ cls := "LastWordWood$Wood", name := "grows", desc := "(I)I" } : Jvm.MethodName)) ∈ lw_all := lw_g (lw_at lw_m4 75 rfl) rfl
theorem q887 : (Jvm.Cond.instanceMethod ({ cls := "LastWordWood", name := "of", desc := "(II)I" } : Jvm.MethodName)) ∈ lw_all := lw_g (lw_at lw_m4 77 rfl) rfl
theorem q888 : (Jvm.Cond.selects "LastWordWood" ({ cls := "LastWordWood", name := "of", desc := "(II)I" } : Jvm.MethodName) ({ cls := "LastWordWood", name := "of", desc := "(II)I" } : Jvm.MethodName)) ∈ lw_all := lw_g (lw_at lw_m4 78 rfl) rfl
theorem q889 : (Jvm.Cond.code ({ cls := "LastWordWood", name := "of", desc := "(II)I" } : Jvm.MethodName) prog_1_method_26_code (4 : Nat) (Option.some Jvm.ClassFile.FieldType.int)) ∈ lw_all := lw_g (lw_at lw_m4 79 rfl) rfl
theorem q891 : (Jvm.Cond.instanceMethod ({ cls := "LastWordWood", name := "kind", desc := "(II)I" } : Jvm.MethodName)) ∈ lw_all := lw_g (lw_at lw_m4 81 rfl) rfl
theorem q892 : (Jvm.Cond.selects "LastWordWood" ({ cls := "LastWordWood", name := "kind", desc := "(II)I" } : Jvm.MethodName) ({ cls := "LastWordWood", name := "kind", desc := "(II)I" } : Jvm.MethodName)) ∈ lw_all := lw_g (lw_at lw_m4 82 rfl) rfl
theorem q893 : (Jvm.Cond.code ({ cls := "LastWordWood", name := "kind", desc := "(II)I" } : Jvm.MethodName) prog_1_method_27_code (3 : Nat) (Option.some Jvm.ClassFile.FieldType.int)) ∈ lw_all := lw_g (lw_at lw_m4 83 rfl) rfl
theorem q895 : (Jvm.Cond.instanceMethod ({ cls := "LastWordWood", name := "book", desc := "(II)I" } : Jvm.MethodName)) ∈ lw_all := lw_g (lw_at lw_m4 85 rfl) rfl
theorem q896 : (Jvm.Cond.selects "LastWordWood" ({ cls := "LastWordWood", name := "book", desc := "(II)I" } : Jvm.MethodName) ({ cls := "LastWordWood", name := "book", desc := "(II)I" } : Jvm.MethodName)) ∈ lw_all := lw_g (lw_at lw_m4 86 rfl) rfl
theorem q897 : (Jvm.Cond.code ({ cls := "LastWordWood", name := "book", desc := "(II)I" } : Jvm.MethodName) prog_1_method_28_code (3 : Nat) (Option.some Jvm.ClassFile.FieldType.int)) ∈ lw_all := lw_g (lw_at lw_m4 87 rfl) rfl
theorem q899 : (Jvm.Cond.instanceMethod ({ cls := "LastWordWood", name := "soup", desc := "(III)I" } : Jvm.MethodName)) ∈ lw_all := lw_g (lw_at lw_m4 89 rfl) rfl
theorem q900 : (Jvm.Cond.selects "LastWordWood" ({ cls := "LastWordWood", name := "soup", desc := "(III)I" } : Jvm.MethodName) ({ cls := "LastWordWood", name := "soup", desc := "(III)I" } : Jvm.MethodName)) ∈ lw_all := lw_g (lw_at lw_m4 90 rfl) rfl
theorem q901 : (Jvm.Cond.code ({ cls := "LastWordWood", name := "soup", desc := "(III)I" } : Jvm.MethodName) prog_1_method_32_code (8 : Nat) (Option.some Jvm.ClassFile.FieldType.int)) ∈ lw_all := lw_g (lw_at lw_m4 91 rfl) rfl
theorem q902 : (Jvm.Cond.methodLink "LastWordWood" (223 : Nat) ({ cls := "java/lang/Integer", name := "bitCount", desc := "(I)I" } : Jvm.MethodName)) ∈ lw_all := lw_g (lw_at lw_m4 92 rfl) rfl
theorem q908 : (Jvm.Cond.methodLink "LastWordWood" (228 : Nat) ({ cls := "LastWordWood", name := "laysSpices", desc := "(I)I" } : Jvm.MethodName)) ∈ lw_all := lw_g (lw_at lw_m4 98 rfl) rfl
theorem q909 : (Jvm.Cond.privateMethod ({ cls := "LastWordWood", name := "laysSpices", desc := "(I)I" } : Jvm.MethodName)) ∈ lw_tbl := lw_at lw_m4 99 rfl
theorem q910 : (Jvm.Cond.instanceMethod ({ cls := "LastWordWood", name := "laysSpices", desc := "(I)I" } : Jvm.MethodName)) ∈ lw_all := lw_g (lw_at lw_m4 100 rfl) rfl
theorem q911 : (Jvm.Cond.code ({ cls := "LastWordWood", name := "laysSpices", desc := "(I)I" } : Jvm.MethodName) prog_1_method_29_code (4 : Nat) (Option.some Jvm.ClassFile.FieldType.int)) ∈ lw_all := lw_g (lw_at lw_m4 101 rfl) rfl
theorem q912 : (Jvm.Cond.methodLink "LastWordWood" (217 : Nat) ({ cls := "LastWordWood", name := "spiceAt", desc := "(I)I" } : Jvm.MethodName)) ∈ lw_all := lw_g (lw_at lw_m4 102 rfl) rfl
theorem q913 : (Jvm.Cond.privateMethod ({ cls := "LastWordWood", name := "spiceAt", desc := "(I)I" } : Jvm.MethodName)) ∈ lw_tbl := lw_at lw_m4 103 rfl
theorem q914 : (Jvm.Cond.instanceMethod ({ cls := "LastWordWood", name := "spiceAt", desc := "(I)I" } : Jvm.MethodName)) ∈ lw_all := lw_g (lw_at lw_m4 104 rfl) rfl
theorem q915 : (Jvm.Cond.code ({ cls := "LastWordWood", name := "spiceAt", desc := "(I)I" } : Jvm.MethodName) prog_1_method_30_code (2 : Nat) (Option.some Jvm.ClassFile.FieldType.int)) ∈ lw_all := lw_g (lw_at lw_m4 105 rfl) rfl
theorem q916 : (Jvm.Cond.methodLink "LastWordWood" (231 : Nat) ({ cls := "LastWordWood", name := "onwards", desc := "(II)I" } : Jvm.MethodName)) ∈ lw_all := lw_g (lw_at lw_m4 106 rfl) rfl
theorem q917 : (Jvm.Cond.privateMethod ({ cls := "LastWordWood", name := "onwards", desc := "(II)I" } : Jvm.MethodName)) ∈ lw_tbl := lw_at lw_m4 107 rfl
theorem q918 : (Jvm.Cond.instanceMethod ({ cls := "LastWordWood", name := "onwards", desc := "(II)I" } : Jvm.MethodName)) ∈ lw_all := lw_g (lw_at lw_m4 108 rfl) rfl
theorem q919 : (Jvm.Cond.code ({ cls := "LastWordWood", name := "onwards", desc := "(II)I" } : Jvm.MethodName) prog_1_method_31_code (6 : Nat) (Option.some Jvm.ClassFile.FieldType.int)) ∈ lw_all := lw_g (lw_at lw_m4 109 rfl) rfl
theorem q920 : (Jvm.Cond.constant "LastWordWood" (216 : Nat) (99999 : Int32)) ∈ lw_all := lw_g (lw_at lw_m4 110 rfl) rfl
theorem q921 : (Jvm.Cond.methodLink "LastWordWood" (220 : Nat) ({ cls := "LastWordWood", name := "far", desc := "(II)I" } : Jvm.MethodName)) ∈ lw_all := lw_g (lw_at lw_m4 111 rfl) rfl
theorem q923 : (Jvm.Cond.instanceMethod ({ cls := "LastWordWood", name := "unsaid", desc := "(II)I" } : Jvm.MethodName)) ∈ lw_all := lw_g (lw_at lw_m4 113 rfl) rfl
theorem q924 : (Jvm.Cond.selects "LastWordWood" ({ cls := "LastWordWood", name := "unsaid", desc := "(II)I" } : Jvm.MethodName) ({ cls := "LastWordWood", name := "unsaid", desc := "(II)I" } : Jvm.MethodName)) ∈ lw_all := lw_g (lw_at lw_m4 114 rfl) rfl
theorem q925 : (Jvm.Cond.code ({ cls := "LastWordWood", name := "unsaid", desc := "(II)I" } : Jvm.MethodName) prog_1_method_34_code (5 : Nat) (Option.some Jvm.ClassFile.FieldType.int)) ∈ lw_all := lw_g (lw_at lw_m4 115 rfl) rfl
theorem q926 : (Jvm.Cond.methodLink "LastWordWood" (234 : Nat) ({ cls := "LastWordWood", name := "isRound", desc := "(II)Z" } : Jvm.MethodName)) ∈ lw_all := lw_g (lw_at lw_m4 116 rfl) rfl
theorem q927 : (Jvm.Cond.privateMethod ({ cls := "LastWordWood", name := "isRound", desc := "(II)Z" } : Jvm.MethodName)) ∈ lw_tbl := lw_at lw_m4 117 rfl
theorem q928 : (Jvm.Cond.instanceMethod ({ cls := "LastWordWood", name := "isRound", desc := "(II)Z" } : Jvm.MethodName)) ∈ lw_all := lw_g (lw_at lw_m4 118 rfl) rfl
theorem q929 : (Jvm.Cond.code ({ cls := "LastWordWood", name := "isRound", desc := "(II)Z" } : Jvm.MethodName) prog_1_method_33_code (3 : Nat) (Option.some Jvm.ClassFile.FieldType.boolean)) ∈ lw_all := lw_g (lw_at lw_m4 119 rfl) rfl
theorem q931 : (Jvm.Cond.instanceMethod ({ cls := "LastWordWood", name := "odds", desc := "(IIII)I" } : Jvm.MethodName)) ∈ lw_all := lw_g (lw_at lw_m4 121 rfl) rfl
theorem q932 : (Jvm.Cond.selects "LastWordWood" ({ cls := "LastWordWood", name := "odds", desc := "(IIII)I" } : Jvm.MethodName) ({ cls := "LastWordWood", name := "odds", desc := "(IIII)I" } : Jvm.MethodName)) ∈ lw_all := lw_g (lw_at lw_m4 122 rfl) rfl
theorem q933 : (Jvm.Cond.code ({ cls := "LastWordWood", name := "odds", desc := "(IIII)I" } : Jvm.MethodName) prog_1_method_37_code (10 : Nat) (Option.some Jvm.ClassFile.FieldType.int)) ∈ lw_all := lw_g (lw_at lw_m4 123 rfl) rfl
theorem q934 : (Jvm.Cond.methodLink "LastWordWood" (241 : Nat) ({ cls := "LastWordWood", name := "ways", desc := "(II)I" } : Jvm.MethodName)) ∈ lw_all := lw_g (lw_at lw_m4 124 rfl) rfl
theorem q935 : (Jvm.Cond.static ({ cls := "LastWordWood", name := "ways", desc := "(II)I" } : Jvm.MethodName)) ∈ lw_all := lw_g (lw_at lw_m4 125 rfl) rfl
theorem q936 : (Jvm.Cond.code ({ cls := "LastWordWood", name := "ways", desc := "(II)I" } : Jvm.MethodName) prog_1_method_35_code (4 : Nat) (Option.some Jvm.ClassFile.FieldType.int)) ∈ lw_all := lw_g (lw_at lw_m4 126 rfl) rfl
theorem q937 : (Jvm.Cond.methodLink "LastWordWood" (238 : Nat) ({ cls := "LastWordWood", name := "common", desc := "(II)I" } : Jvm.MethodName)) ∈ lw_all := lw_g (lw_at lw_m4 127 rfl) rfl
theorem q938 : (Jvm.Cond.static ({ cls := "LastWordWood", name := "common", desc := "(II)I" } : Jvm.MethodName)) ∈ lw_all := lw_g (lw_at lw_m4 128 rfl) rfl
theorem q939 : (Jvm.Cond.code ({ cls := "LastWordWood", name := "common", desc := "(II)I" } : Jvm.MethodName) prog_1_method_36_code (2 : Nat) (Option.some Jvm.ClassFile.FieldType.int)) ∈ lw_all := lw_g (lw_at lw_m4 129 rfl) rfl
theorem q941 : (Jvm.Cond.instanceMethod ({ cls := "LastWordWood", name := "grove", desc := "(II)I" } : Jvm.MethodName)) ∈ lw_all := lw_g (lw_at lw_m4 131 rfl) rfl
theorem q942 : (Jvm.Cond.selects "LastWordWood" ({ cls := "LastWordWood", name := "grove", desc := "(II)I" } : Jvm.MethodName) ({ cls := "LastWordWood", name := "grove", desc := "(II)I" } : Jvm.MethodName)) ∈ lw_all := lw_g (lw_at lw_m4 132 rfl) rfl
theorem q943 : (Jvm.Cond.code ({ cls := "LastWordWood", name := "grove", desc := "(II)I" } : Jvm.MethodName) prog_1_method_39_code (6 : Nat) (Option.some Jvm.ClassFile.FieldType.int)) ∈ lw_all := lw_g (lw_at lw_m4 133 rfl) rfl
theorem q944 : (Jvm.Cond.methodLink "LastWordWood" (244 : Nat) ({ cls := "LastWordWood", name := "around", desc := "(II)I" } : Jvm.MethodName)) ∈ lw_all := lw_g (lw_at lw_m4 134 rfl) rfl
theorem q945 : (Jvm.Cond.privateMethod ({ cls := "LastWordWood", name := "around", desc := "(II)I" } : Jvm.MethodName)) ∈ lw_tbl := lw_at lw_m4 135 rfl
theorem q946 : (Jvm.Cond.instanceMethod ({ cls := "LastWordWood", name := "around", desc := "(II)I" } : Jvm.MethodName)) ∈ lw_all := lw_g (lw_at lw_m4 136 rfl) rfl
theorem q947 : (Jvm.Cond.code ({ cls := "LastWordWood", name := "around", desc := "(II)I" } : Jvm.MethodName) prog_1_method_38_code (5 : Nat) (Option.some Jvm.ClassFile.FieldType.int)) ∈ lw_all := lw_g (lw_at lw_m4 137 rfl) rfl
theorem q949 : (Jvm.Cond.instanceMethod ({ cls := "LastWordWood", name := "engaged", desc := "(I)I" } : Jvm.MethodName)) ∈ lw_all := lw_g (lw_at lw_m4 139 rfl) rfl
theorem q950 : (Jvm.Cond.selects "LastWordWood" ({ cls := "LastWordWood", name := "engaged", desc := "(I)I" } : Jvm.MethodName) ({ cls := "LastWordWood", name := "engaged", desc := "(I)I" } : Jvm.MethodName)) ∈ lw_all := lw_g (lw_at lw_m4 140 rfl) rfl
theorem q951 : (Jvm.Cond.code ({ cls := "LastWordWood", name := "engaged", desc := "(I)I" } : Jvm.MethodName) prog_1_method_41_code (7 : Nat) (Option.some Jvm.ClassFile.FieldType.int)) ∈ lw_all := lw_g (lw_at lw_m4 141 rfl) rfl
theorem q952 : (Jvm.Cond.methodLink "LastWordWood" (247 : Nat) ({ cls := "LastWordWood", name := "areEngaged", desc := "(II)Z" } : Jvm.MethodName)) ∈ lw_all := lw_g (lw_at lw_m4 142 rfl) rfl
theorem q953 : (Jvm.Cond.privateMethod ({ cls := "LastWordWood", name := "areEngaged", desc := "(II)Z" } : Jvm.MethodName)) ∈ lw_tbl := lw_at lw_m4 143 rfl
theorem q954 : (Jvm.Cond.instanceMethod ({ cls := "LastWordWood", name := "areEngaged", desc := "(II)Z" } : Jvm.MethodName)) ∈ lw_all := lw_g (lw_at lw_m4 144 rfl) rfl
theorem q955 : (Jvm.Cond.code ({ cls := "LastWordWood", name := "areEngaged", desc := "(II)Z" } : Jvm.MethodName) prog_1_method_40_code (3 : Nat) (Option.some Jvm.ClassFile.FieldType.boolean)) ∈ lw_all := lw_g (lw_at lw_m4 145 rfl) rfl
theorem q957 : (Jvm.Cond.instanceMethod ({ cls := "LastWordWood", name := "size", desc := "(II)I" } : Jvm.MethodName)) ∈ lw_all := lw_g (lw_at lw_m4 147 rfl) rfl
theorem q958 : (Jvm.Cond.selects "LastWordWood" ({ cls := "LastWordWood", name := "size", desc := "(II)I" } : Jvm.MethodName) ({ cls := "LastWordWood", name := "size", desc := "(II)I" } : Jvm.MethodName)) ∈ lw_all := lw_g (lw_at lw_m4 148 rfl) rfl
theorem q959 : (Jvm.Cond.code ({ cls := "LastWordWood", name := "size", desc := "(II)I" } : Jvm.MethodName) prog_1_method_42_code (4 : Nat) (Option.some Jvm.ClassFile.FieldType.int)) ∈ lw_all := lw_g (lw_at lw_m4 149 rfl) rfl
theorem q960 : (Jvm.Cond.methodLink "LastWordWood" (250 : Nat) ({ cls := "LastWordWood$Wood", name := "takes", desc := "(LLastWordWood$Wood;)V" } : Jvm.MethodName)) ∈ lw_all := lw_g (lw_at lw_m4 150 rfl) rfl
theorem q965 : (Jvm.Cond.methodLink "LastWordWood" (253 : Nat) ({ cls := "LastWordWood$Wood", name := "goesOn", desc := "()V" } : Jvm.MethodName)) ∈ lw_all := lw_g (lw_at lw_m4 155 rfl) rfl
theorem q970 : (Jvm.Cond.instanceMethod ({ cls := "LastWordWood", name := "full", desc := "(I)I" } : Jvm.MethodName)) ∈ lw_all := lw_g (lw_at lw_m4 160 rfl) rfl
theorem q971 : (Jvm.Cond.selects "LastWordWood" ({ cls := "LastWordWood", name := "full", desc := "(I)I" } : Jvm.MethodName) ({ cls := "LastWordWood", name := "full", desc := "(I)I" } : Jvm.MethodName)) ∈ lw_all := lw_g (lw_at lw_m4 161 rfl) rfl
theorem q972 : (Jvm.Cond.code ({ cls := "LastWordWood", name := "full", desc := "(I)I" } : Jvm.MethodName) prog_1_method_43_code (5 : Nat) (Option.some Jvm.ClassFile.FieldType.int)) ∈ lw_all := lw_g (lw_at lw_m4 162 rfl) rfl
theorem q974 : (Jvm.Cond.instanceMethod ({ cls := "LastWordWood", name := "went", desc := "(IIII)I" } : Jvm.MethodName)) ∈ lw_all := lw_g (lw_at lw_m4 164 rfl) rfl
theorem q975 : (Jvm.Cond.selects "LastWordWood" ({ cls := "LastWordWood", name := "went", desc := "(IIII)I" } : Jvm.MethodName) ({ cls := "LastWordWood", name := "went", desc := "(IIII)I" } : Jvm.MethodName)) ∈ lw_all := lw_g (lw_at lw_m4 165 rfl) rfl
theorem q976 : (Jvm.Cond.code ({ cls := "LastWordWood", name := "went", desc := "(IIII)I" } : Jvm.MethodName) prog_1_method_44_code (8 : Nat) (Option.some Jvm.ClassFile.FieldType.int)) ∈ lw_all := lw_g (lw_at lw_m4 166 rfl) rfl
theorem q978 : (Jvm.Cond.instanceMethod ({ cls := "LastWordWood", name := "image", desc := "(Z)Z" } : Jvm.MethodName)) ∈ lw_all := lw_g (lw_at lw_m4 168 rfl) rfl
theorem q979 : (Jvm.Cond.selects "LastWordWood" ({ cls := "LastWordWood", name := "image", desc := "(Z)Z" } : Jvm.MethodName) ({ cls := "LastWordWood", name := "image", desc := "(Z)Z" } : Jvm.MethodName)) ∈ lw_all := lw_g (lw_at lw_m4 169 rfl) rfl
theorem q980 : (Jvm.Cond.code ({ cls := "LastWordWood", name := "image", desc := "(Z)Z" } : Jvm.MethodName) prog_1_method_45_code (2 : Nat) (Option.some Jvm.ClassFile.FieldType.boolean)) ∈ lw_all := lw_g (lw_at lw_m4 170 rfl) rfl
theorem q982 : (Jvm.Cond.instanceMethod ({ cls := "LastWordWood", name := "look", desc := "(I)I" } : Jvm.MethodName)) ∈ lw_all := lw_g (lw_at lw_m4 172 rfl) rfl
theorem q983 : (Jvm.Cond.selects "LastWordWood" ({ cls := "LastWordWood", name := "look", desc := "(I)I" } : Jvm.MethodName) ({ cls := "LastWordWood", name := "look", desc := "(I)I" } : Jvm.MethodName)) ∈ lw_all := lw_g (lw_at lw_m4 173 rfl) rfl
theorem q984 : (Jvm.Cond.code ({ cls := "LastWordWood", name := "look", desc := "(I)I" } : Jvm.MethodName) prog_1_method_46_code (2 : Nat) (Option.some Jvm.ClassFile.FieldType.int)) ∈ lw_all := lw_g (lw_at lw_m4 174 rfl) rfl
theorem q985 : (Jvm.Cond.methodLink "LastWordWood" (260 : Nat) ({ cls := "LastWordWood$Wood", name := "caps", desc := "()I" } : Jvm.MethodName)) ∈ lw_all := lw_g (lw_at lw_m4 175 rfl) rfl
theorem q1478 : (Jvm.Cond.castable "LastWordWood" "java/lang/Object") ∈ lw_tbl := lw_at lw_m6 188 rfl
theorem in_X0 : ∀ w ∈ wsX00, w ∈ lw_all := lw_in wsX00 [306, 308, 310, 312, 314, 316, 318, 320, 322, 324, 326, 328] (by decide +kernel) (by decide +kernel)

