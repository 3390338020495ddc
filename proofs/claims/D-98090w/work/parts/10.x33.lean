set_option maxRecDepth 100000
theorem dX3_odds_95 : decode cX3_odds 95 = .ok (.iadd, 1) := dk_96 (dk_at dksX3_odds_4 0 rfl rfl)
theorem dX3_odds_96 : decode cX3_odds 96 = .ok (.istore 6, 2) := dk_54 6 (dk_at dksX3_odds_4 1 rfl rfl)
theorem dX3_odds_98 : decode cX3_odds 98 = .ok (.iinc 7 1, 3) := dk_132 7 1 (dk_at dksX3_odds_4 3 rfl rfl)
theorem dX3_odds_101 : decode cX3_odds 101 = .ok (.goto (-55), 3) := dk_167 255 201 (dk_at dksX3_odds_4 6 rfl rfl)
theorem dX3_odds_104 : decode cX3_odds 104 = .ok (.iload 5, 2) := dk_21 5 (dk_at dksX3_odds_4 9 rfl rfl)
theorem dX3_odds_106 : decode cX3_odds 106 = .ok (.iload_n 3, 1) := dk_29 (dk_at dksX3_odds_4 11 rfl rfl)
theorem dX3_odds_107 : decode cX3_odds 107 = .ok (.if_icmp .ge 5, 3) := dk_162 0 5 (dk_at dksX3_odds_4 12 rfl rfl)
theorem dX3_odds_110 : decode cX3_odds 110 = .ok (.iconst (-1), 1) := dk_2 (dk_at dksX3_odds_4 15 rfl rfl)
theorem dX3_odds_111 : decode cX3_odds 111 = .ok (.ireturn, 1) := dk_172 (dk_at dksX3_odds_4 16 rfl rfl)
theorem dX3_odds_112 : decode cX3_odds 112 = .ok (.aload_n 0, 1) := dk_42 (dk_at dksX3_odds_4 17 rfl rfl)
theorem dX3_odds_113 : decode cX3_odds 113 = .ok (.iload 6, 2) := dk_21 6 (dk_at dksX3_odds_4 18 rfl rfl)
theorem dX3_odds_115 : decode cX3_odds 115 = .ok (.iload_n 3, 1) := dk_29 (dk_at dksX3_odds_4 20 rfl rfl)
theorem dX3_odds_116 : decode cX3_odds 116 = .ok (.invokevirtual 304, 3) := dk_182 1 48 (dk_at dksX3_odds_4 21 rfl rfl)
theorem dX3_odds_119 : decode cX3_odds 119 = .ok (.istore 7, 2) := dk_54 7 (dk_at dksX3_odds_5 0 rfl rfl)
theorem dX3_odds_121 : decode cX3_odds 121 = .ok (.aload_n 0, 1) := dk_42 (dk_at dksX3_odds_5 2 rfl rfl)
theorem dX3_odds_122 : decode cX3_odds 122 = .ok (.iload 5, 2) := dk_21 5 (dk_at dksX3_odds_5 3 rfl rfl)
theorem dX3_odds_124 : decode cX3_odds 124 = .ok (.iload_n 3, 1) := dk_29 (dk_at dksX3_odds_5 5 rfl rfl)
theorem dX3_odds_125 : decode cX3_odds 125 = .ok (.invokevirtual 304, 3) := dk_182 1 48 (dk_at dksX3_odds_5 6 rfl rfl)
theorem dX3_odds_128 : decode cX3_odds 128 = .ok (.istore 8, 2) := dk_54 8 (dk_at dksX3_odds_5 9 rfl rfl)
theorem dX3_odds_130 : decode cX3_odds 130 = .ok (.iload 7, 2) := dk_21 7 (dk_at dksX3_odds_5 11 rfl rfl)
theorem dX3_odds_132 : decode cX3_odds 132 = .ok (.istore 9, 2) := dk_54 9 (dk_at dksX3_odds_5 13 rfl rfl)
theorem dX3_odds_134 : decode cX3_odds 134 = .ok (.iload 8, 2) := dk_21 8 (dk_at dksX3_odds_5 15 rfl rfl)
theorem dX3_odds_136 : decode cX3_odds 136 = .ok (.istore 10, 2) := dk_54 10 (dk_at dksX3_odds_5 17 rfl rfl)
theorem dX3_odds_138 : decode cX3_odds 138 = .ok (.iload 10, 2) := dk_21 10 (dk_at dksX3_odds_5 19 rfl rfl)
theorem dX3_odds_140 : decode cX3_odds 140 = .ok (.ifCond .eq 21, 3) := dk_153 0 21 (dk_at dksX3_odds_5 21 rfl rfl)
theorem dX3_odds_143 : decode cX3_odds 143 = .ok (.iload 9, 2) := dk_21 9 (dk_at dksX3_odds_6 0 rfl rfl)
theorem dX3_odds_145 : decode cX3_odds 145 = .ok (.iload 10, 2) := dk_21 10 (dk_at dksX3_odds_6 2 rfl rfl)
theorem dX3_odds_147 : decode cX3_odds 147 = .ok (.irem, 1) := dk_112 (dk_at dksX3_odds_6 4 rfl rfl)
theorem dX3_odds_148 : decode cX3_odds 148 = .ok (.istore 11, 2) := dk_54 11 (dk_at dksX3_odds_6 5 rfl rfl)
theorem dX3_odds_150 : decode cX3_odds 150 = .ok (.iload 10, 2) := dk_21 10 (dk_at dksX3_odds_6 7 rfl rfl)
theorem dX3_odds_152 : decode cX3_odds 152 = .ok (.istore 9, 2) := dk_54 9 (dk_at dksX3_odds_6 9 rfl rfl)
theorem dX3_odds_154 : decode cX3_odds 154 = .ok (.iload 11, 2) := dk_21 11 (dk_at dksX3_odds_6 11 rfl rfl)
theorem dX3_odds_156 : decode cX3_odds 156 = .ok (.istore 10, 2) := dk_54 10 (dk_at dksX3_odds_6 13 rfl rfl)
theorem dX3_odds_158 : decode cX3_odds 158 = .ok (.goto (-20), 3) := dk_167 255 236 (dk_at dksX3_odds_6 15 rfl rfl)
theorem dX3_odds_161 : decode cX3_odds 161 = .ok (.iload 4, 2) := dk_21 4 (dk_at dksX3_odds_6 18 rfl rfl)
theorem dX3_odds_163 : decode cX3_odds 163 = .ok (.ifCond .ne 11, 3) := dk_154 0 11 (dk_at dksX3_odds_6 20 rfl rfl)
theorem dX3_odds_166 : decode cX3_odds 166 = .ok (.iload 7, 2) := dk_21 7 (dk_at dksX3_odds_7 0 rfl rfl)
theorem dX3_odds_168 : decode cX3_odds 168 = .ok (.iload 9, 2) := dk_21 9 (dk_at dksX3_odds_7 2 rfl rfl)
theorem dX3_odds_170 : decode cX3_odds 170 = .ok (.idiv, 1) := dk_108 (dk_at dksX3_odds_7 4 rfl rfl)
theorem dX3_odds_171 : decode cX3_odds 171 = .ok (.goto 8, 3) := dk_167 0 8 (dk_at dksX3_odds_7 5 rfl rfl)
theorem dX3_odds_174 : decode cX3_odds 174 = .ok (.iload 8, 2) := dk_21 8 (dk_at dksX3_odds_7 8 rfl rfl)
theorem dX3_odds_176 : decode cX3_odds 176 = .ok (.iload 9, 2) := dk_21 9 (dk_at dksX3_odds_7 10 rfl rfl)
theorem dX3_odds_178 : decode cX3_odds 178 = .ok (.idiv, 1) := dk_108 (dk_at dksX3_odds_7 12 rfl rfl)
theorem dX3_odds_179 : decode cX3_odds 179 = .ok (.ireturn, 1) := dk_172 (dk_at dksX3_odds_7 13 rfl rfl)
abbrev cX3_waysOf : ByteArray := prog_14_method_71_code
def yX3_waysOf : MethodName := ⟨RX3, "waysOf", "(II)I"⟩
def dkwX3_waysOf_1 : List UInt8 := [29, 27, 21, 4, 100, 104, 21, 4, 4, 96, 108, 62, 132, 4, 1, 167, 255, 231, 29, 172]
abbrev dktX3_waysOf_1 : List UInt8 := dkwX3_waysOf_1 ++ []
def dkwX3_waysOf_0 : List UInt8 := [28, 27, 164, 0, 7, 3, 167, 0, 4, 4, 62, 3, 54, 4, 21, 4, 28, 162, 0, 25, 29, 158, 0, 21]
abbrev dktX3_waysOf_0 : List UInt8 := dkwX3_waysOf_0 ++ dktX3_waysOf_1
theorem dksX3_waysOf_0 : cX3_waysOf.data.toList.drop 0 = dktX3_waysOf_0 := by decide +kernel
theorem dksX3_waysOf_1 : cX3_waysOf.data.toList.drop 24 = dktX3_waysOf_1 := dk_seg dksX3_waysOf_0 24 rfl rfl
theorem dX3_waysOf_0 : decode cX3_waysOf 0 = .ok (.iload_n 2, 1) := dk_28 (dk_at dksX3_waysOf_0 0 rfl rfl)
theorem dX3_waysOf_1 : decode cX3_waysOf 1 = .ok (.iload_n 1, 1) := dk_27 (dk_at dksX3_waysOf_0 1 rfl rfl)
theorem dX3_waysOf_2 : decode cX3_waysOf 2 = .ok (.if_icmp .le 7, 3) := dk_164 0 7 (dk_at dksX3_waysOf_0 2 rfl rfl)
theorem dX3_waysOf_5 : decode cX3_waysOf 5 = .ok (.iconst 0, 1) := dk_3 (dk_at dksX3_waysOf_0 5 rfl rfl)
theorem dX3_waysOf_6 : decode cX3_waysOf 6 = .ok (.goto 4, 3) := dk_167 0 4 (dk_at dksX3_waysOf_0 6 rfl rfl)
theorem dX3_waysOf_9 : decode cX3_waysOf 9 = .ok (.iconst 1, 1) := dk_4 (dk_at dksX3_waysOf_0 9 rfl rfl)
theorem dX3_waysOf_10 : decode cX3_waysOf 10 = .ok (.istore_n 3, 1) := dk_62 (dk_at dksX3_waysOf_0 10 rfl rfl)
theorem dX3_waysOf_11 : decode cX3_waysOf 11 = .ok (.iconst 0, 1) := dk_3 (dk_at dksX3_waysOf_0 11 rfl rfl)
theorem dX3_waysOf_12 : decode cX3_waysOf 12 = .ok (.istore 4, 2) := dk_54 4 (dk_at dksX3_waysOf_0 12 rfl rfl)
theorem dX3_waysOf_14 : decode cX3_waysOf 14 = .ok (.iload 4, 2) := dk_21 4 (dk_at dksX3_waysOf_0 14 rfl rfl)
theorem dX3_waysOf_16 : decode cX3_waysOf 16 = .ok (.iload_n 2, 1) := dk_28 (dk_at dksX3_waysOf_0 16 rfl rfl)
theorem dX3_waysOf_17 : decode cX3_waysOf 17 = .ok (.if_icmp .ge 25, 3) := dk_162 0 25 (dk_at dksX3_waysOf_0 17 rfl rfl)
theorem dX3_waysOf_20 : decode cX3_waysOf 20 = .ok (.iload_n 3, 1) := dk_29 (dk_at dksX3_waysOf_0 20 rfl rfl)
theorem dX3_waysOf_21 : decode cX3_waysOf 21 = .ok (.ifCond .le 21, 3) := dk_158 0 21 (dk_at dksX3_waysOf_0 21 rfl rfl)
theorem dX3_waysOf_24 : decode cX3_waysOf 24 = .ok (.iload_n 3, 1) := dk_29 (dk_at dksX3_waysOf_1 0 rfl rfl)
theorem dX3_waysOf_25 : decode cX3_waysOf 25 = .ok (.iload_n 1, 1) := dk_27 (dk_at dksX3_waysOf_1 1 rfl rfl)
theorem dX3_waysOf_26 : decode cX3_waysOf 26 = .ok (.iload 4, 2) := dk_21 4 (dk_at dksX3_waysOf_1 2 rfl rfl)
theorem dX3_waysOf_28 : decode cX3_waysOf 28 = .ok (.isub, 1) := dk_100 (dk_at dksX3_waysOf_1 4 rfl rfl)
theorem dX3_waysOf_29 : decode cX3_waysOf 29 = .ok (.imul, 1) := dk_104 (dk_at dksX3_waysOf_1 5 rfl rfl)
theorem dX3_waysOf_30 : decode cX3_waysOf 30 = .ok (.iload 4, 2) := dk_21 4 (dk_at dksX3_waysOf_1 6 rfl rfl)
theorem dX3_waysOf_32 : decode cX3_waysOf 32 = .ok (.iconst 1, 1) := dk_4 (dk_at dksX3_waysOf_1 8 rfl rfl)
theorem dX3_waysOf_33 : decode cX3_waysOf 33 = .ok (.iadd, 1) := dk_96 (dk_at dksX3_waysOf_1 9 rfl rfl)
theorem dX3_waysOf_34 : decode cX3_waysOf 34 = .ok (.idiv, 1) := dk_108 (dk_at dksX3_waysOf_1 10 rfl rfl)
theorem dX3_waysOf_35 : decode cX3_waysOf 35 = .ok (.istore_n 3, 1) := dk_62 (dk_at dksX3_waysOf_1 11 rfl rfl)
theorem dX3_waysOf_36 : decode cX3_waysOf 36 = .ok (.iinc 4 1, 3) := dk_132 4 1 (dk_at dksX3_waysOf_1 12 rfl rfl)
theorem dX3_waysOf_39 : decode cX3_waysOf 39 = .ok (.goto (-25), 3) := dk_167 255 231 (dk_at dksX3_waysOf_1 15 rfl rfl)
theorem dX3_waysOf_42 : decode cX3_waysOf 42 = .ok (.iload_n 3, 1) := dk_29 (dk_at dksX3_waysOf_1 18 rfl rfl)
theorem dX3_waysOf_43 : decode cX3_waysOf 43 = .ok (.ireturn, 1) := dk_172 (dk_at dksX3_waysOf_1 19 rfl rfl)
abbrev cX3_grove : ByteArray := prog_14_method_74_code
def yX3_grove : MethodName := ⟨RX3, "grove", "(II)I"⟩
def dkwX3_grove_3 : List UInt8 := [132, 4, 1, 167, 255, 218, 28, 154, 0, 7, 29, 167, 0, 9, 42, 29, 27, 182, 1, 51, 172]
abbrev dktX3_grove_3 : List UInt8 := dkwX3_grove_3 ++ []
def dkwX3_grove_2 : List UInt8 := [153, 0, 22, 42, 21, 4, 27, 182, 1, 51, 42, 29, 27, 182, 1, 51, 164, 0, 6, 21, 4, 62]
abbrev dktX3_grove_2 : List UInt8 := dkwX3_grove_2 ++ dktX3_grove_3
def dkwX3_grove_1 : List UInt8 := [154, 0, 5, 2, 172, 3, 62, 3, 54, 4, 21, 4, 16, 64, 162, 0, 37, 42, 21, 4, 182, 0, 129]
abbrev dktX3_grove_1 : List UInt8 := dkwX3_grove_1 ++ dktX3_grove_2
def dkwX3_grove_0 : List UInt8 := [42, 3, 181, 0, 86, 42, 27, 3, 16, 14, 182, 0, 107, 153, 0, 13, 42, 28, 3, 4, 182, 0, 107]
abbrev dktX3_grove_0 : List UInt8 := dkwX3_grove_0 ++ dktX3_grove_1
theorem dksX3_grove_0 : cX3_grove.data.toList.drop 0 = dktX3_grove_0 := by decide +kernel
theorem dksX3_grove_1 : cX3_grove.data.toList.drop 23 = dktX3_grove_1 := dk_seg dksX3_grove_0 23 rfl rfl
theorem dksX3_grove_2 : cX3_grove.data.toList.drop 46 = dktX3_grove_2 := dk_seg dksX3_grove_1 23 rfl rfl
theorem dksX3_grove_3 : cX3_grove.data.toList.drop 68 = dktX3_grove_3 := dk_seg dksX3_grove_2 22 rfl rfl
theorem dX3_grove_0 : decode cX3_grove 0 = .ok (.aload_n 0, 1) := dk_42 (dk_at dksX3_grove_0 0 rfl rfl)
theorem dX3_grove_1 : decode cX3_grove 1 = .ok (.iconst 0, 1) := dk_3 (dk_at dksX3_grove_0 1 rfl rfl)
theorem dX3_grove_2 : decode cX3_grove 2 = .ok (.putfield 86, 3) := dk_181 0 86 (dk_at dksX3_grove_0 2 rfl rfl)
theorem dX3_grove_5 : decode cX3_grove 5 = .ok (.aload_n 0, 1) := dk_42 (dk_at dksX3_grove_0 5 rfl rfl)
theorem dX3_grove_6 : decode cX3_grove 6 = .ok (.iload_n 1, 1) := dk_27 (dk_at dksX3_grove_0 6 rfl rfl)
theorem dX3_grove_7 : decode cX3_grove 7 = .ok (.iconst 0, 1) := dk_3 (dk_at dksX3_grove_0 7 rfl rfl)
theorem dX3_grove_8 : decode cX3_grove 8 = .ok (.bipush 14, 2) := dk_16 14 (dk_at dksX3_grove_0 8 rfl rfl)
theorem dX3_grove_10 : decode cX3_grove 10 = .ok (.invokevirtual 107, 3) := dk_182 0 107 (dk_at dksX3_grove_0 10 rfl rfl)
theorem dX3_grove_13 : decode cX3_grove 13 = .ok (.ifCond .eq 13, 3) := dk_153 0 13 (dk_at dksX3_grove_0 13 rfl rfl)
theorem dX3_grove_16 : decode cX3_grove 16 = .ok (.aload_n 0, 1) := dk_42 (dk_at dksX3_grove_0 16 rfl rfl)
theorem dX3_grove_17 : decode cX3_grove 17 = .ok (.iload_n 2, 1) := dk_28 (dk_at dksX3_grove_0 17 rfl rfl)
theorem dX3_grove_18 : decode cX3_grove 18 = .ok (.iconst 0, 1) := dk_3 (dk_at dksX3_grove_0 18 rfl rfl)
theorem dX3_grove_19 : decode cX3_grove 19 = .ok (.iconst 1, 1) := dk_4 (dk_at dksX3_grove_0 19 rfl rfl)
theorem dX3_grove_20 : decode cX3_grove 20 = .ok (.invokevirtual 107, 3) := dk_182 0 107 (dk_at dksX3_grove_0 20 rfl rfl)
theorem dX3_grove_23 : decode cX3_grove 23 = .ok (.ifCond .ne 5, 3) := dk_154 0 5 (dk_at dksX3_grove_1 0 rfl rfl)
theorem dX3_grove_26 : decode cX3_grove 26 = .ok (.iconst (-1), 1) := dk_2 (dk_at dksX3_grove_1 3 rfl rfl)
theorem dX3_grove_27 : decode cX3_grove 27 = .ok (.ireturn, 1) := dk_172 (dk_at dksX3_grove_1 4 rfl rfl)
theorem dX3_grove_28 : decode cX3_grove 28 = .ok (.iconst 0, 1) := dk_3 (dk_at dksX3_grove_1 5 rfl rfl)
theorem dX3_grove_29 : decode cX3_grove 29 = .ok (.istore_n 3, 1) := dk_62 (dk_at dksX3_grove_1 6 rfl rfl)
theorem dX3_grove_30 : decode cX3_grove 30 = .ok (.iconst 0, 1) := dk_3 (dk_at dksX3_grove_1 7 rfl rfl)
theorem dX3_grove_31 : decode cX3_grove 31 = .ok (.istore 4, 2) := dk_54 4 (dk_at dksX3_grove_1 8 rfl rfl)
theorem dX3_grove_33 : decode cX3_grove 33 = .ok (.iload 4, 2) := dk_21 4 (dk_at dksX3_grove_1 10 rfl rfl)
theorem dX3_grove_35 : decode cX3_grove 35 = .ok (.bipush 64, 2) := dk_16 64 (dk_at dksX3_grove_1 12 rfl rfl)
theorem dX3_grove_37 : decode cX3_grove 37 = .ok (.if_icmp .ge 37, 3) := dk_162 0 37 (dk_at dksX3_grove_1 14 rfl rfl)
theorem dX3_grove_40 : decode cX3_grove 40 = .ok (.aload_n 0, 1) := dk_42 (dk_at dksX3_grove_1 17 rfl rfl)
theorem dX3_grove_41 : decode cX3_grove 41 = .ok (.iload 4, 2) := dk_21 4 (dk_at dksX3_grove_1 18 rfl rfl)
theorem dX3_grove_43 : decode cX3_grove 43 = .ok (.invokevirtual 129, 3) := dk_182 0 129 (dk_at dksX3_grove_1 20 rfl rfl)
theorem dX3_grove_46 : decode cX3_grove 46 = .ok (.ifCond .eq 22, 3) := dk_153 0 22 (dk_at dksX3_grove_2 0 rfl rfl)
theorem dX3_grove_49 : decode cX3_grove 49 = .ok (.aload_n 0, 1) := dk_42 (dk_at dksX3_grove_2 3 rfl rfl)
theorem dX3_grove_50 : decode cX3_grove 50 = .ok (.iload 4, 2) := dk_21 4 (dk_at dksX3_grove_2 4 rfl rfl)
theorem dX3_grove_52 : decode cX3_grove 52 = .ok (.iload_n 1, 1) := dk_27 (dk_at dksX3_grove_2 6 rfl rfl)
theorem dX3_grove_53 : decode cX3_grove 53 = .ok (.invokevirtual 307, 3) := dk_182 1 51 (dk_at dksX3_grove_2 7 rfl rfl)
theorem dX3_grove_56 : decode cX3_grove 56 = .ok (.aload_n 0, 1) := dk_42 (dk_at dksX3_grove_2 10 rfl rfl)
theorem dX3_grove_57 : decode cX3_grove 57 = .ok (.iload_n 3, 1) := dk_29 (dk_at dksX3_grove_2 11 rfl rfl)
theorem dX3_grove_58 : decode cX3_grove 58 = .ok (.iload_n 1, 1) := dk_27 (dk_at dksX3_grove_2 12 rfl rfl)
theorem dX3_grove_59 : decode cX3_grove 59 = .ok (.invokevirtual 307, 3) := dk_182 1 51 (dk_at dksX3_grove_2 13 rfl rfl)
theorem dX3_grove_62 : decode cX3_grove 62 = .ok (.if_icmp .le 6, 3) := dk_164 0 6 (dk_at dksX3_grove_2 16 rfl rfl)
theorem dX3_grove_65 : decode cX3_grove 65 = .ok (.iload 4, 2) := dk_21 4 (dk_at dksX3_grove_2 19 rfl rfl)
theorem dX3_grove_67 : decode cX3_grove 67 = .ok (.istore_n 3, 1) := dk_62 (dk_at dksX3_grove_2 21 rfl rfl)
theorem dX3_grove_68 : decode cX3_grove 68 = .ok (.iinc 4 1, 3) := dk_132 4 1 (dk_at dksX3_grove_3 0 rfl rfl)
theorem dX3_grove_71 : decode cX3_grove 71 = .ok (.goto (-38), 3) := dk_167 255 218 (dk_at dksX3_grove_3 3 rfl rfl)
theorem dX3_grove_74 : decode cX3_grove 74 = .ok (.iload_n 2, 1) := dk_28 (dk_at dksX3_grove_3 6 rfl rfl)
theorem dX3_grove_75 : decode cX3_grove 75 = .ok (.ifCond .ne 7, 3) := dk_154 0 7 (dk_at dksX3_grove_3 7 rfl rfl)
theorem dX3_grove_78 : decode cX3_grove 78 = .ok (.iload_n 3, 1) := dk_29 (dk_at dksX3_grove_3 10 rfl rfl)
theorem dX3_grove_79 : decode cX3_grove 79 = .ok (.goto 9, 3) := dk_167 0 9 (dk_at dksX3_grove_3 11 rfl rfl)
theorem dX3_grove_82 : decode cX3_grove 82 = .ok (.aload_n 0, 1) := dk_42 (dk_at dksX3_grove_3 14 rfl rfl)
theorem dX3_grove_83 : decode cX3_grove 83 = .ok (.iload_n 3, 1) := dk_29 (dk_at dksX3_grove_3 15 rfl rfl)
theorem dX3_grove_84 : decode cX3_grove 84 = .ok (.iload_n 1, 1) := dk_27 (dk_at dksX3_grove_3 16 rfl rfl)
theorem dX3_grove_85 : decode cX3_grove 85 = .ok (.invokevirtual 307, 3) := dk_182 1 51 (dk_at dksX3_grove_3 17 rfl rfl)
theorem dX3_grove_88 : decode cX3_grove 88 = .ok (.ireturn, 1) := dk_172 (dk_at dksX3_grove_3 20 rfl rfl)
abbrev cX3_groveAt : ByteArray := prog_14_method_73_code
def yX3_groveAt : MethodName := ⟨RX3, "groveAt", "(II)I"⟩
def dkwX3_groveAt_2 : List UInt8 := [100, 46, 104, 96, 62, 132, 4, 1, 167, 255, 205, 29, 172]
abbrev dktX3_groveAt_2 : List UInt8 := dkwX3_groveAt_2 ++ []
def dkwX3_groveAt_1 : List UInt8 := [42, 180, 0, 7, 16, 64, 21, 4, 96, 46, 42, 180, 0, 26, 42, 180, 0, 7, 3, 21, 4, 96, 46, 4]
abbrev dktX3_groveAt_1 : List UInt8 := dkwX3_groveAt_1 ++ dktX3_groveAt_2
def dkwX3_groveAt_0 : List UInt8 := [3, 62, 3, 54, 4, 21, 4, 16, 64, 162, 0, 50, 42, 21, 4, 27, 28, 182, 1, 45, 153, 0, 33, 29]
abbrev dktX3_groveAt_0 : List UInt8 := dkwX3_groveAt_0 ++ dktX3_groveAt_1
theorem dksX3_groveAt_0 : cX3_groveAt.data.toList.drop 0 = dktX3_groveAt_0 := by decide +kernel
theorem dksX3_groveAt_1 : cX3_groveAt.data.toList.drop 24 = dktX3_groveAt_1 := dk_seg dksX3_groveAt_0 24 rfl rfl
theorem dksX3_groveAt_2 : cX3_groveAt.data.toList.drop 48 = dktX3_groveAt_2 := dk_seg dksX3_groveAt_1 24 rfl rfl
theorem dX3_groveAt_0 : decode cX3_groveAt 0 = .ok (.iconst 0, 1) := dk_3 (dk_at dksX3_groveAt_0 0 rfl rfl)
theorem dX3_groveAt_1 : decode cX3_groveAt 1 = .ok (.istore_n 3, 1) := dk_62 (dk_at dksX3_groveAt_0 1 rfl rfl)
theorem dX3_groveAt_2 : decode cX3_groveAt 2 = .ok (.iconst 0, 1) := dk_3 (dk_at dksX3_groveAt_0 2 rfl rfl)
theorem dX3_groveAt_3 : decode cX3_groveAt 3 = .ok (.istore 4, 2) := dk_54 4 (dk_at dksX3_groveAt_0 3 rfl rfl)
theorem dX3_groveAt_5 : decode cX3_groveAt 5 = .ok (.iload 4, 2) := dk_21 4 (dk_at dksX3_groveAt_0 5 rfl rfl)
theorem dX3_groveAt_7 : decode cX3_groveAt 7 = .ok (.bipush 64, 2) := dk_16 64 (dk_at dksX3_groveAt_0 7 rfl rfl)
theorem dX3_groveAt_9 : decode cX3_groveAt 9 = .ok (.if_icmp .ge 50, 3) := dk_162 0 50 (dk_at dksX3_groveAt_0 9 rfl rfl)
theorem dX3_groveAt_12 : decode cX3_groveAt 12 = .ok (.aload_n 0, 1) := dk_42 (dk_at dksX3_groveAt_0 12 rfl rfl)
theorem dX3_groveAt_13 : decode cX3_groveAt 13 = .ok (.iload 4, 2) := dk_21 4 (dk_at dksX3_groveAt_0 13 rfl rfl)
theorem dX3_groveAt_15 : decode cX3_groveAt 15 = .ok (.iload_n 1, 1) := dk_27 (dk_at dksX3_groveAt_0 15 rfl rfl)
theorem dX3_groveAt_16 : decode cX3_groveAt 16 = .ok (.iload_n 2, 1) := dk_28 (dk_at dksX3_groveAt_0 16 rfl rfl)
theorem dX3_groveAt_17 : decode cX3_groveAt 17 = .ok (.invokevirtual 301, 3) := dk_182 1 45 (dk_at dksX3_groveAt_0 17 rfl rfl)
theorem dX3_groveAt_20 : decode cX3_groveAt 20 = .ok (.ifCond .eq 33, 3) := dk_153 0 33 (dk_at dksX3_groveAt_0 20 rfl rfl)
theorem dX3_groveAt_23 : decode cX3_groveAt 23 = .ok (.iload_n 3, 1) := dk_29 (dk_at dksX3_groveAt_0 23 rfl rfl)
theorem dX3_groveAt_24 : decode cX3_groveAt 24 = .ok (.aload_n 0, 1) := dk_42 (dk_at dksX3_groveAt_1 0 rfl rfl)
theorem dX3_groveAt_25 : decode cX3_groveAt 25 = .ok (.getfield 7, 3) := dk_180 0 7 (dk_at dksX3_groveAt_1 1 rfl rfl)
theorem dX3_groveAt_28 : decode cX3_groveAt 28 = .ok (.bipush 64, 2) := dk_16 64 (dk_at dksX3_groveAt_1 4 rfl rfl)
theorem dX3_groveAt_30 : decode cX3_groveAt 30 = .ok (.iload 4, 2) := dk_21 4 (dk_at dksX3_groveAt_1 6 rfl rfl)
theorem dX3_groveAt_32 : decode cX3_groveAt 32 = .ok (.iadd, 1) := dk_96 (dk_at dksX3_groveAt_1 8 rfl rfl)
theorem dX3_groveAt_33 : decode cX3_groveAt 33 = .ok (.iaload, 1) := dk_46 (dk_at dksX3_groveAt_1 9 rfl rfl)
theorem dX3_groveAt_34 : decode cX3_groveAt 34 = .ok (.aload_n 0, 1) := dk_42 (dk_at dksX3_groveAt_1 10 rfl rfl)
theorem dX3_groveAt_35 : decode cX3_groveAt 35 = .ok (.getfield 26, 3) := dk_180 0 26 (dk_at dksX3_groveAt_1 11 rfl rfl)
theorem dX3_groveAt_38 : decode cX3_groveAt 38 = .ok (.aload_n 0, 1) := dk_42 (dk_at dksX3_groveAt_1 14 rfl rfl)
theorem dX3_groveAt_39 : decode cX3_groveAt 39 = .ok (.getfield 7, 3) := dk_180 0 7 (dk_at dksX3_groveAt_1 15 rfl rfl)
theorem dX3_groveAt_42 : decode cX3_groveAt 42 = .ok (.iconst 0, 1) := dk_3 (dk_at dksX3_groveAt_1 18 rfl rfl)
theorem dX3_groveAt_43 : decode cX3_groveAt 43 = .ok (.iload 4, 2) := dk_21 4 (dk_at dksX3_groveAt_1 19 rfl rfl)
theorem dX3_groveAt_45 : decode cX3_groveAt 45 = .ok (.iadd, 1) := dk_96 (dk_at dksX3_groveAt_1 21 rfl rfl)
theorem dX3_groveAt_46 : decode cX3_groveAt 46 = .ok (.iaload, 1) := dk_46 (dk_at dksX3_groveAt_1 22 rfl rfl)
theorem dX3_groveAt_47 : decode cX3_groveAt 47 = .ok (.iconst 1, 1) := dk_4 (dk_at dksX3_groveAt_1 23 rfl rfl)
theorem dX3_groveAt_48 : decode cX3_groveAt 48 = .ok (.isub, 1) := dk_100 (dk_at dksX3_groveAt_2 0 rfl rfl)
theorem dX3_groveAt_49 : decode cX3_groveAt 49 = .ok (.iaload, 1) := dk_46 (dk_at dksX3_groveAt_2 1 rfl rfl)
theorem dX3_groveAt_50 : decode cX3_groveAt 50 = .ok (.imul, 1) := dk_104 (dk_at dksX3_groveAt_2 2 rfl rfl)
theorem dX3_groveAt_51 : decode cX3_groveAt 51 = .ok (.iadd, 1) := dk_96 (dk_at dksX3_groveAt_2 3 rfl rfl)
theorem dX3_groveAt_52 : decode cX3_groveAt 52 = .ok (.istore_n 3, 1) := dk_62 (dk_at dksX3_groveAt_2 4 rfl rfl)
theorem dX3_groveAt_53 : decode cX3_groveAt 53 = .ok (.iinc 4 1, 3) := dk_132 4 1 (dk_at dksX3_groveAt_2 5 rfl rfl)
theorem dX3_groveAt_56 : decode cX3_groveAt 56 = .ok (.goto (-51), 3) := dk_167 255 205 (dk_at dksX3_groveAt_2 8 rfl rfl)
theorem dX3_groveAt_59 : decode cX3_groveAt 59 = .ok (.iload_n 3, 1) := dk_29 (dk_at dksX3_groveAt_2 11 rfl rfl)
theorem dX3_groveAt_60 : decode cX3_groveAt 60 = .ok (.ireturn, 1) := dk_172 (dk_at dksX3_groveAt_2 12 rfl rfl)
abbrev cX3_engaged : ByteArray := prog_14_method_76_code
def yX3_engaged : MethodName := ⟨RX3, "engaged", "(I)I"⟩
def dkwX3_engaged_5 : List UInt8 := [167, 0, 7, 29, 16, 64, 112, 172]
abbrev dktX3_engaged_5 : List UInt8 := dkwX3_engaged_5 ++ []
def dkwX3_engaged_4 : List UInt8 := [154, 0, 5, 28, 172, 29, 2, 160, 0, 7, 2, 167, 0, 19, 27, 4, 160, 0, 10, 29, 16, 64, 108]
abbrev dktX3_engaged_4 : List UInt8 := dkwX3_engaged_4 ++ dktX3_engaged_5
def dkwX3_engaged_3 : List UInt8 := [167, 0, 4, 29, 62, 28, 4, 96, 61, 132, 5, 1, 167, 255, 211, 132, 4, 1, 167, 255, 192, 27]
abbrev dktX3_engaged_3 : List UInt8 := dkwX3_engaged_3 ++ dktX3_engaged_4
def dkwX3_engaged_2 : List UInt8 := [21, 5, 182, 1, 54, 154, 0, 6, 167, 0, 24, 28, 154, 0, 14, 16, 64, 21, 4, 104, 21, 5, 96]
abbrev dktX3_engaged_2 : List UInt8 := dkwX3_engaged_2 ++ dktX3_engaged_3
def dkwX3_engaged_1 : List UInt8 := [21, 4, 16, 64, 162, 0, 63, 21, 4, 4, 96, 54, 5, 21, 5, 16, 64, 162, 0, 44, 42, 21, 4]
abbrev dktX3_engaged_1 : List UInt8 := dkwX3_engaged_1 ++ dktX3_engaged_2
def dkwX3_engaged_0 : List UInt8 := [42, 3, 181, 0, 86, 42, 27, 3, 5, 182, 0, 107, 154, 0, 5, 2, 172, 3, 61, 2, 62, 3, 54, 4]
abbrev dktX3_engaged_0 : List UInt8 := dkwX3_engaged_0 ++ dktX3_engaged_1
theorem dksX3_engaged_0 : cX3_engaged.data.toList.drop 0 = dktX3_engaged_0 := by decide +kernel
theorem dksX3_engaged_1 : cX3_engaged.data.toList.drop 24 = dktX3_engaged_1 := dk_seg dksX3_engaged_0 24 rfl rfl
theorem dksX3_engaged_2 : cX3_engaged.data.toList.drop 47 = dktX3_engaged_2 := dk_seg dksX3_engaged_1 23 rfl rfl
theorem dksX3_engaged_3 : cX3_engaged.data.toList.drop 70 = dktX3_engaged_3 := dk_seg dksX3_engaged_2 23 rfl rfl
theorem dksX3_engaged_4 : cX3_engaged.data.toList.drop 92 = dktX3_engaged_4 := dk_seg dksX3_engaged_3 22 rfl rfl
theorem dksX3_engaged_5 : cX3_engaged.data.toList.drop 115 = dktX3_engaged_5 := dk_seg dksX3_engaged_4 23 rfl rfl
theorem dX3_engaged_0 : decode cX3_engaged 0 = .ok (.aload_n 0, 1) := dk_42 (dk_at dksX3_engaged_0 0 rfl rfl)
theorem dX3_engaged_1 : decode cX3_engaged 1 = .ok (.iconst 0, 1) := dk_3 (dk_at dksX3_engaged_0 1 rfl rfl)
theorem dX3_engaged_2 : decode cX3_engaged 2 = .ok (.putfield 86, 3) := dk_181 0 86 (dk_at dksX3_engaged_0 2 rfl rfl)
theorem dX3_engaged_5 : decode cX3_engaged 5 = .ok (.aload_n 0, 1) := dk_42 (dk_at dksX3_engaged_0 5 rfl rfl)
theorem dX3_engaged_6 : decode cX3_engaged 6 = .ok (.iload_n 1, 1) := dk_27 (dk_at dksX3_engaged_0 6 rfl rfl)
theorem dX3_engaged_7 : decode cX3_engaged 7 = .ok (.iconst 0, 1) := dk_3 (dk_at dksX3_engaged_0 7 rfl rfl)
theorem dX3_engaged_8 : decode cX3_engaged 8 = .ok (.iconst 2, 1) := dk_5 (dk_at dksX3_engaged_0 8 rfl rfl)
theorem dX3_engaged_9 : decode cX3_engaged 9 = .ok (.invokevirtual 107, 3) := dk_182 0 107 (dk_at dksX3_engaged_0 9 rfl rfl)
theorem dX3_engaged_12 : decode cX3_engaged 12 = .ok (.ifCond .ne 5, 3) := dk_154 0 5 (dk_at dksX3_engaged_0 12 rfl rfl)
theorem dX3_engaged_15 : decode cX3_engaged 15 = .ok (.iconst (-1), 1) := dk_2 (dk_at dksX3_engaged_0 15 rfl rfl)
theorem dX3_engaged_16 : decode cX3_engaged 16 = .ok (.ireturn, 1) := dk_172 (dk_at dksX3_engaged_0 16 rfl rfl)
theorem dX3_engaged_17 : decode cX3_engaged 17 = .ok (.iconst 0, 1) := dk_3 (dk_at dksX3_engaged_0 17 rfl rfl)
theorem dX3_engaged_18 : decode cX3_engaged 18 = .ok (.istore_n 2, 1) := dk_61 (dk_at dksX3_engaged_0 18 rfl rfl)
theorem dX3_engaged_19 : decode cX3_engaged 19 = .ok (.iconst (-1), 1) := dk_2 (dk_at dksX3_engaged_0 19 rfl rfl)
theorem dX3_engaged_20 : decode cX3_engaged 20 = .ok (.istore_n 3, 1) := dk_62 (dk_at dksX3_engaged_0 20 rfl rfl)
theorem dX3_engaged_21 : decode cX3_engaged 21 = .ok (.iconst 0, 1) := dk_3 (dk_at dksX3_engaged_0 21 rfl rfl)
theorem dX3_engaged_22 : decode cX3_engaged 22 = .ok (.istore 4, 2) := dk_54 4 (dk_at dksX3_engaged_0 22 rfl rfl)
theorem dX3_engaged_24 : decode cX3_engaged 24 = .ok (.iload 4, 2) := dk_21 4 (dk_at dksX3_engaged_1 0 rfl rfl)
theorem dX3_engaged_26 : decode cX3_engaged 26 = .ok (.bipush 64, 2) := dk_16 64 (dk_at dksX3_engaged_1 2 rfl rfl)
theorem dX3_engaged_28 : decode cX3_engaged 28 = .ok (.if_icmp .ge 63, 3) := dk_162 0 63 (dk_at dksX3_engaged_1 4 rfl rfl)
theorem dX3_engaged_31 : decode cX3_engaged 31 = .ok (.iload 4, 2) := dk_21 4 (dk_at dksX3_engaged_1 7 rfl rfl)
theorem dX3_engaged_33 : decode cX3_engaged 33 = .ok (.iconst 1, 1) := dk_4 (dk_at dksX3_engaged_1 9 rfl rfl)
theorem dX3_engaged_34 : decode cX3_engaged 34 = .ok (.iadd, 1) := dk_96 (dk_at dksX3_engaged_1 10 rfl rfl)
theorem dX3_engaged_35 : decode cX3_engaged 35 = .ok (.istore 5, 2) := dk_54 5 (dk_at dksX3_engaged_1 11 rfl rfl)
theorem dX3_engaged_37 : decode cX3_engaged 37 = .ok (.iload 5, 2) := dk_21 5 (dk_at dksX3_engaged_1 13 rfl rfl)
theorem dX3_engaged_39 : decode cX3_engaged 39 = .ok (.bipush 64, 2) := dk_16 64 (dk_at dksX3_engaged_1 15 rfl rfl)
theorem dX3_engaged_41 : decode cX3_engaged 41 = .ok (.if_icmp .ge 44, 3) := dk_162 0 44 (dk_at dksX3_engaged_1 17 rfl rfl)
theorem dX3_engaged_44 : decode cX3_engaged 44 = .ok (.aload_n 0, 1) := dk_42 (dk_at dksX3_engaged_1 20 rfl rfl)
theorem dX3_engaged_45 : decode cX3_engaged 45 = .ok (.iload 4, 2) := dk_21 4 (dk_at dksX3_engaged_1 21 rfl rfl)
theorem dX3_engaged_47 : decode cX3_engaged 47 = .ok (.iload 5, 2) := dk_21 5 (dk_at dksX3_engaged_2 0 rfl rfl)
theorem dX3_engaged_49 : decode cX3_engaged 49 = .ok (.invokevirtual 310, 3) := dk_182 1 54 (dk_at dksX3_engaged_2 2 rfl rfl)
theorem dX3_engaged_52 : decode cX3_engaged 52 = .ok (.ifCond .ne 6, 3) := dk_154 0 6 (dk_at dksX3_engaged_2 5 rfl rfl)
theorem dX3_engaged_55 : decode cX3_engaged 55 = .ok (.goto 24, 3) := dk_167 0 24 (dk_at dksX3_engaged_2 8 rfl rfl)
theorem dX3_engaged_58 : decode cX3_engaged 58 = .ok (.iload_n 2, 1) := dk_28 (dk_at dksX3_engaged_2 11 rfl rfl)
theorem dX3_engaged_59 : decode cX3_engaged 59 = .ok (.ifCond .ne 14, 3) := dk_154 0 14 (dk_at dksX3_engaged_2 12 rfl rfl)
theorem dX3_engaged_62 : decode cX3_engaged 62 = .ok (.bipush 64, 2) := dk_16 64 (dk_at dksX3_engaged_2 15 rfl rfl)
theorem dX3_engaged_64 : decode cX3_engaged 64 = .ok (.iload 4, 2) := dk_21 4 (dk_at dksX3_engaged_2 17 rfl rfl)
theorem dX3_engaged_66 : decode cX3_engaged 66 = .ok (.imul, 1) := dk_104 (dk_at dksX3_engaged_2 19 rfl rfl)
theorem dX3_engaged_67 : decode cX3_engaged 67 = .ok (.iload 5, 2) := dk_21 5 (dk_at dksX3_engaged_2 20 rfl rfl)
theorem dX3_engaged_69 : decode cX3_engaged 69 = .ok (.iadd, 1) := dk_96 (dk_at dksX3_engaged_2 22 rfl rfl)
theorem dX3_engaged_70 : decode cX3_engaged 70 = .ok (.goto 4, 3) := dk_167 0 4 (dk_at dksX3_engaged_3 0 rfl rfl)
theorem dX3_engaged_73 : decode cX3_engaged 73 = .ok (.iload_n 3, 1) := dk_29 (dk_at dksX3_engaged_3 3 rfl rfl)
theorem dX3_engaged_74 : decode cX3_engaged 74 = .ok (.istore_n 3, 1) := dk_62 (dk_at dksX3_engaged_3 4 rfl rfl)
theorem dX3_engaged_75 : decode cX3_engaged 75 = .ok (.iload_n 2, 1) := dk_28 (dk_at dksX3_engaged_3 5 rfl rfl)
theorem dX3_engaged_76 : decode cX3_engaged 76 = .ok (.iconst 1, 1) := dk_4 (dk_at dksX3_engaged_3 6 rfl rfl)
theorem dX3_engaged_77 : decode cX3_engaged 77 = .ok (.iadd, 1) := dk_96 (dk_at dksX3_engaged_3 7 rfl rfl)
theorem dX3_engaged_78 : decode cX3_engaged 78 = .ok (.istore_n 2, 1) := dk_61 (dk_at dksX3_engaged_3 8 rfl rfl)
theorem dX3_engaged_79 : decode cX3_engaged 79 = .ok (.iinc 5 1, 3) := dk_132 5 1 (dk_at dksX3_engaged_3 9 rfl rfl)
theorem dX3_engaged_82 : decode cX3_engaged 82 = .ok (.goto (-45), 3) := dk_167 255 211 (dk_at dksX3_engaged_3 12 rfl rfl)
theorem dX3_engaged_85 : decode cX3_engaged 85 = .ok (.iinc 4 1, 3) := dk_132 4 1 (dk_at dksX3_engaged_3 15 rfl rfl)
theorem dX3_engaged_88 : decode cX3_engaged 88 = .ok (.goto (-64), 3) := dk_167 255 192 (dk_at dksX3_engaged_3 18 rfl rfl)
theorem dX3_engaged_91 : decode cX3_engaged 91 = .ok (.iload_n 1, 1) := dk_27 (dk_at dksX3_engaged_3 21 rfl rfl)
theorem dX3_engaged_92 : decode cX3_engaged 92 = .ok (.ifCond .ne 5, 3) := dk_154 0 5 (dk_at dksX3_engaged_4 0 rfl rfl)
theorem dX3_engaged_95 : decode cX3_engaged 95 = .ok (.iload_n 2, 1) := dk_28 (dk_at dksX3_engaged_4 3 rfl rfl)
theorem dX3_engaged_96 : decode cX3_engaged 96 = .ok (.ireturn, 1) := dk_172 (dk_at dksX3_engaged_4 4 rfl rfl)
theorem dX3_engaged_97 : decode cX3_engaged 97 = .ok (.iload_n 3, 1) := dk_29 (dk_at dksX3_engaged_4 5 rfl rfl)
theorem dX3_engaged_98 : decode cX3_engaged 98 = .ok (.iconst (-1), 1) := dk_2 (dk_at dksX3_engaged_4 6 rfl rfl)
theorem dX3_engaged_99 : decode cX3_engaged 99 = .ok (.if_icmp .ne 7, 3) := dk_160 0 7 (dk_at dksX3_engaged_4 7 rfl rfl)
theorem dX3_engaged_102 : decode cX3_engaged 102 = .ok (.iconst (-1), 1) := dk_2 (dk_at dksX3_engaged_4 10 rfl rfl)
theorem dX3_engaged_103 : decode cX3_engaged 103 = .ok (.goto 19, 3) := dk_167 0 19 (dk_at dksX3_engaged_4 11 rfl rfl)
theorem dX3_engaged_106 : decode cX3_engaged 106 = .ok (.iload_n 1, 1) := dk_27 (dk_at dksX3_engaged_4 14 rfl rfl)
theorem dX3_engaged_107 : decode cX3_engaged 107 = .ok (.iconst 1, 1) := dk_4 (dk_at dksX3_engaged_4 15 rfl rfl)
theorem dX3_engaged_108 : decode cX3_engaged 108 = .ok (.if_icmp .ne 10, 3) := dk_160 0 10 (dk_at dksX3_engaged_4 16 rfl rfl)
theorem dX3_engaged_111 : decode cX3_engaged 111 = .ok (.iload_n 3, 1) := dk_29 (dk_at dksX3_engaged_4 19 rfl rfl)
theorem dX3_engaged_112 : decode cX3_engaged 112 = .ok (.bipush 64, 2) := dk_16 64 (dk_at dksX3_engaged_4 20 rfl rfl)
theorem dX3_engaged_114 : decode cX3_engaged 114 = .ok (.idiv, 1) := dk_108 (dk_at dksX3_engaged_4 22 rfl rfl)
theorem dX3_engaged_115 : decode cX3_engaged 115 = .ok (.goto 7, 3) := dk_167 0 7 (dk_at dksX3_engaged_5 0 rfl rfl)
theorem dX3_engaged_118 : decode cX3_engaged 118 = .ok (.iload_n 3, 1) := dk_29 (dk_at dksX3_engaged_5 3 rfl rfl)
theorem dX3_engaged_119 : decode cX3_engaged 119 = .ok (.bipush 64, 2) := dk_16 64 (dk_at dksX3_engaged_5 4 rfl rfl)
theorem dX3_engaged_121 : decode cX3_engaged 121 = .ok (.irem, 1) := dk_112 (dk_at dksX3_engaged_5 6 rfl rfl)
theorem dX3_engaged_122 : decode cX3_engaged 122 = .ok (.ireturn, 1) := dk_172 (dk_at dksX3_engaged_5 7 rfl rfl)
abbrev cX3_areEngaged : ByteArray := prog_14_method_75_code
def yX3_areEngaged : MethodName := ⟨RX3, "areEngaged", "(II)Z"⟩
def dkwX3_areEngaged_3 : List UInt8 := [46, 42, 180, 0, 7, 17, 0, 192, 28, 96, 46, 159, 0, 7, 4, 167, 0, 4, 3, 172]
abbrev dktX3_areEngaged_3 : List UInt8 := dkwX3_areEngaged_3 ++ []
def dkwX3_areEngaged_2 : List UInt8 := [96, 46, 42, 180, 0, 7, 17, 0, 128, 28, 96, 46, 160, 0, 30, 42, 180, 0, 7, 17, 0, 192, 27, 96]
abbrev dktX3_areEngaged_2 : List UInt8 := dkwX3_areEngaged_2 ++ dktX3_areEngaged_3
def dkwX3_areEngaged_1 : List UInt8 := [28, 96, 46, 160, 0, 63, 42, 27, 28, 182, 0, 253, 4, 160, 0, 53, 42, 180, 0, 7, 17, 0, 128, 27]
abbrev dktX3_areEngaged_1 : List UInt8 := dkwX3_areEngaged_1 ++ dktX3_areEngaged_2
def dkwX3_areEngaged_0 : List UInt8 := [42, 180, 0, 7, 3, 27, 96, 46, 158, 0, 82, 42, 180, 0, 7, 3, 27, 96, 46, 42, 180, 0, 7, 3]
abbrev dktX3_areEngaged_0 : List UInt8 := dkwX3_areEngaged_0 ++ dktX3_areEngaged_1
theorem dksX3_areEngaged_0 : cX3_areEngaged.data.toList.drop 0 = dktX3_areEngaged_0 := by decide +kernel
theorem dksX3_areEngaged_1 : cX3_areEngaged.data.toList.drop 24 = dktX3_areEngaged_1 := dk_seg dksX3_areEngaged_0 24 rfl rfl
theorem dksX3_areEngaged_2 : cX3_areEngaged.data.toList.drop 48 = dktX3_areEngaged_2 := dk_seg dksX3_areEngaged_1 24 rfl rfl
theorem dksX3_areEngaged_3 : cX3_areEngaged.data.toList.drop 72 = dktX3_areEngaged_3 := dk_seg dksX3_areEngaged_2 24 rfl rfl
theorem dX3_areEngaged_0 : decode cX3_areEngaged 0 = .ok (.aload_n 0, 1) := dk_42 (dk_at dksX3_areEngaged_0 0 rfl rfl)
theorem dX3_areEngaged_1 : decode cX3_areEngaged 1 = .ok (.getfield 7, 3) := dk_180 0 7 (dk_at dksX3_areEngaged_0 1 rfl rfl)
theorem dX3_areEngaged_4 : decode cX3_areEngaged 4 = .ok (.iconst 0, 1) := dk_3 (dk_at dksX3_areEngaged_0 4 rfl rfl)
theorem dX3_areEngaged_5 : decode cX3_areEngaged 5 = .ok (.iload_n 1, 1) := dk_27 (dk_at dksX3_areEngaged_0 5 rfl rfl)
theorem dX3_areEngaged_6 : decode cX3_areEngaged 6 = .ok (.iadd, 1) := dk_96 (dk_at dksX3_areEngaged_0 6 rfl rfl)
theorem dX3_areEngaged_7 : decode cX3_areEngaged 7 = .ok (.iaload, 1) := dk_46 (dk_at dksX3_areEngaged_0 7 rfl rfl)
theorem dX3_areEngaged_8 : decode cX3_areEngaged 8 = .ok (.ifCond .le 82, 3) := dk_158 0 82 (dk_at dksX3_areEngaged_0 8 rfl rfl)
theorem dX3_areEngaged_11 : decode cX3_areEngaged 11 = .ok (.aload_n 0, 1) := dk_42 (dk_at dksX3_areEngaged_0 11 rfl rfl)
theorem dX3_areEngaged_12 : decode cX3_areEngaged 12 = .ok (.getfield 7, 3) := dk_180 0 7 (dk_at dksX3_areEngaged_0 12 rfl rfl)
theorem dX3_areEngaged_15 : decode cX3_areEngaged 15 = .ok (.iconst 0, 1) := dk_3 (dk_at dksX3_areEngaged_0 15 rfl rfl)
theorem dX3_areEngaged_16 : decode cX3_areEngaged 16 = .ok (.iload_n 1, 1) := dk_27 (dk_at dksX3_areEngaged_0 16 rfl rfl)
theorem dX3_areEngaged_17 : decode cX3_areEngaged 17 = .ok (.iadd, 1) := dk_96 (dk_at dksX3_areEngaged_0 17 rfl rfl)
theorem dX3_areEngaged_18 : decode cX3_areEngaged 18 = .ok (.iaload, 1) := dk_46 (dk_at dksX3_areEngaged_0 18 rfl rfl)
theorem dX3_areEngaged_19 : decode cX3_areEngaged 19 = .ok (.aload_n 0, 1) := dk_42 (dk_at dksX3_areEngaged_0 19 rfl rfl)
theorem dX3_areEngaged_20 : decode cX3_areEngaged 20 = .ok (.getfield 7, 3) := dk_180 0 7 (dk_at dksX3_areEngaged_0 20 rfl rfl)
theorem dX3_areEngaged_23 : decode cX3_areEngaged 23 = .ok (.iconst 0, 1) := dk_3 (dk_at dksX3_areEngaged_0 23 rfl rfl)
theorem dX3_areEngaged_24 : decode cX3_areEngaged 24 = .ok (.iload_n 2, 1) := dk_28 (dk_at dksX3_areEngaged_1 0 rfl rfl)
theorem dX3_areEngaged_25 : decode cX3_areEngaged 25 = .ok (.iadd, 1) := dk_96 (dk_at dksX3_areEngaged_1 1 rfl rfl)
theorem dX3_areEngaged_26 : decode cX3_areEngaged 26 = .ok (.iaload, 1) := dk_46 (dk_at dksX3_areEngaged_1 2 rfl rfl)
theorem dX3_areEngaged_27 : decode cX3_areEngaged 27 = .ok (.if_icmp .ne 63, 3) := dk_160 0 63 (dk_at dksX3_areEngaged_1 3 rfl rfl)
theorem dX3_areEngaged_30 : decode cX3_areEngaged 30 = .ok (.aload_n 0, 1) := dk_42 (dk_at dksX3_areEngaged_1 6 rfl rfl)
theorem dX3_areEngaged_31 : decode cX3_areEngaged 31 = .ok (.iload_n 1, 1) := dk_27 (dk_at dksX3_areEngaged_1 7 rfl rfl)
theorem dX3_areEngaged_32 : decode cX3_areEngaged 32 = .ok (.iload_n 2, 1) := dk_28 (dk_at dksX3_areEngaged_1 8 rfl rfl)
theorem dX3_areEngaged_33 : decode cX3_areEngaged 33 = .ok (.invokevirtual 253, 3) := dk_182 0 253 (dk_at dksX3_areEngaged_1 9 rfl rfl)
theorem dX3_areEngaged_36 : decode cX3_areEngaged 36 = .ok (.iconst 1, 1) := dk_4 (dk_at dksX3_areEngaged_1 12 rfl rfl)
theorem dX3_areEngaged_37 : decode cX3_areEngaged 37 = .ok (.if_icmp .ne 53, 3) := dk_160 0 53 (dk_at dksX3_areEngaged_1 13 rfl rfl)
theorem dX3_areEngaged_40 : decode cX3_areEngaged 40 = .ok (.aload_n 0, 1) := dk_42 (dk_at dksX3_areEngaged_1 16 rfl rfl)
theorem dX3_areEngaged_41 : decode cX3_areEngaged 41 = .ok (.getfield 7, 3) := dk_180 0 7 (dk_at dksX3_areEngaged_1 17 rfl rfl)
theorem dX3_areEngaged_44 : decode cX3_areEngaged 44 = .ok (.sipush 128, 3) := dk_17 0 128 (dk_at dksX3_areEngaged_1 20 rfl rfl)
theorem dX3_areEngaged_47 : decode cX3_areEngaged 47 = .ok (.iload_n 1, 1) := dk_27 (dk_at dksX3_areEngaged_1 23 rfl rfl)
theorem dX3_areEngaged_48 : decode cX3_areEngaged 48 = .ok (.iadd, 1) := dk_96 (dk_at dksX3_areEngaged_2 0 rfl rfl)
theorem dX3_areEngaged_49 : decode cX3_areEngaged 49 = .ok (.iaload, 1) := dk_46 (dk_at dksX3_areEngaged_2 1 rfl rfl)
theorem dX3_areEngaged_50 : decode cX3_areEngaged 50 = .ok (.aload_n 0, 1) := dk_42 (dk_at dksX3_areEngaged_2 2 rfl rfl)
theorem dX3_areEngaged_51 : decode cX3_areEngaged 51 = .ok (.getfield 7, 3) := dk_180 0 7 (dk_at dksX3_areEngaged_2 3 rfl rfl)
theorem dX3_areEngaged_54 : decode cX3_areEngaged 54 = .ok (.sipush 128, 3) := dk_17 0 128 (dk_at dksX3_areEngaged_2 6 rfl rfl)
theorem dX3_areEngaged_57 : decode cX3_areEngaged 57 = .ok (.iload_n 2, 1) := dk_28 (dk_at dksX3_areEngaged_2 9 rfl rfl)
theorem dX3_areEngaged_58 : decode cX3_areEngaged 58 = .ok (.iadd, 1) := dk_96 (dk_at dksX3_areEngaged_2 10 rfl rfl)
theorem dX3_areEngaged_59 : decode cX3_areEngaged 59 = .ok (.iaload, 1) := dk_46 (dk_at dksX3_areEngaged_2 11 rfl rfl)
theorem dX3_areEngaged_60 : decode cX3_areEngaged 60 = .ok (.if_icmp .ne 30, 3) := dk_160 0 30 (dk_at dksX3_areEngaged_2 12 rfl rfl)
theorem dX3_areEngaged_63 : decode cX3_areEngaged 63 = .ok (.aload_n 0, 1) := dk_42 (dk_at dksX3_areEngaged_2 15 rfl rfl)
theorem dX3_areEngaged_64 : decode cX3_areEngaged 64 = .ok (.getfield 7, 3) := dk_180 0 7 (dk_at dksX3_areEngaged_2 16 rfl rfl)
theorem dX3_areEngaged_67 : decode cX3_areEngaged 67 = .ok (.sipush 192, 3) := dk_17 0 192 (dk_at dksX3_areEngaged_2 19 rfl rfl)
theorem dX3_areEngaged_70 : decode cX3_areEngaged 70 = .ok (.iload_n 1, 1) := dk_27 (dk_at dksX3_areEngaged_2 22 rfl rfl)
theorem dX3_areEngaged_71 : decode cX3_areEngaged 71 = .ok (.iadd, 1) := dk_96 (dk_at dksX3_areEngaged_2 23 rfl rfl)
theorem dX3_areEngaged_72 : decode cX3_areEngaged 72 = .ok (.iaload, 1) := dk_46 (dk_at dksX3_areEngaged_3 0 rfl rfl)
theorem dX3_areEngaged_73 : decode cX3_areEngaged 73 = .ok (.aload_n 0, 1) := dk_42 (dk_at dksX3_areEngaged_3 1 rfl rfl)
theorem dX3_areEngaged_74 : decode cX3_areEngaged 74 = .ok (.getfield 7, 3) := dk_180 0 7 (dk_at dksX3_areEngaged_3 2 rfl rfl)
theorem dX3_areEngaged_77 : decode cX3_areEngaged 77 = .ok (.sipush 192, 3) := dk_17 0 192 (dk_at dksX3_areEngaged_3 5 rfl rfl)
theorem dX3_areEngaged_80 : decode cX3_areEngaged 80 = .ok (.iload_n 2, 1) := dk_28 (dk_at dksX3_areEngaged_3 8 rfl rfl)
theorem dX3_areEngaged_81 : decode cX3_areEngaged 81 = .ok (.iadd, 1) := dk_96 (dk_at dksX3_areEngaged_3 9 rfl rfl)
theorem dX3_areEngaged_82 : decode cX3_areEngaged 82 = .ok (.iaload, 1) := dk_46 (dk_at dksX3_areEngaged_3 10 rfl rfl)
theorem dX3_areEngaged_83 : decode cX3_areEngaged 83 = .ok (.if_icmp .eq 7, 3) := dk_159 0 7 (dk_at dksX3_areEngaged_3 11 rfl rfl)
theorem dX3_areEngaged_86 : decode cX3_areEngaged 86 = .ok (.iconst 1, 1) := dk_4 (dk_at dksX3_areEngaged_3 14 rfl rfl)
theorem dX3_areEngaged_87 : decode cX3_areEngaged 87 = .ok (.goto 4, 3) := dk_167 0 4 (dk_at dksX3_areEngaged_3 15 rfl rfl)
theorem dX3_areEngaged_90 : decode cX3_areEngaged 90 = .ok (.iconst 0, 1) := dk_3 (dk_at dksX3_areEngaged_3 18 rfl rfl)
theorem dX3_areEngaged_91 : decode cX3_areEngaged 91 = .ok (.ireturn, 1) := dk_172 (dk_at dksX3_areEngaged_3 19 rfl rfl)
abbrev cX3_size : ByteArray := prog_14_method_77_code
def yX3_size : MethodName := ⟨RX3, "size", "(II)I"⟩
def dkwX3_size_2 : List UInt8 := [167, 0, 4, 3, 182, 1, 18, 132, 3, 1, 167, 255, 231, 42, 180, 0, 71, 27, 46, 172]
abbrev dktX3_size_2 : List UInt8 := dkwX3_size_2 ++ []
def dkwX3_size_1 : List UInt8 := [2, 172, 42, 182, 1, 15, 3, 62, 29, 28, 162, 0, 26, 42, 29, 29, 154, 0, 10, 42, 180, 0, 120]
abbrev dktX3_size_1 : List UInt8 := dkwX3_size_1 ++ dktX3_size_2
def dkwX3_size_0 : List UInt8 := [42, 3, 181, 0, 86, 42, 27, 182, 1, 57, 153, 0, 14, 42, 28, 3, 16, 60, 182, 0, 107, 154, 0, 5]
abbrev dktX3_size_0 : List UInt8 := dkwX3_size_0 ++ dktX3_size_1
theorem dksX3_size_0 : cX3_size.data.toList.drop 0 = dktX3_size_0 := by decide +kernel
theorem dksX3_size_1 : cX3_size.data.toList.drop 24 = dktX3_size_1 := dk_seg dksX3_size_0 24 rfl rfl
theorem dksX3_size_2 : cX3_size.data.toList.drop 47 = dktX3_size_2 := dk_seg dksX3_size_1 23 rfl rfl
theorem dX3_size_0 : decode cX3_size 0 = .ok (.aload_n 0, 1) := dk_42 (dk_at dksX3_size_0 0 rfl rfl)
theorem dX3_size_1 : decode cX3_size 1 = .ok (.iconst 0, 1) := dk_3 (dk_at dksX3_size_0 1 rfl rfl)
theorem dX3_size_2 : decode cX3_size 2 = .ok (.putfield 86, 3) := dk_181 0 86 (dk_at dksX3_size_0 2 rfl rfl)
theorem dX3_size_5 : decode cX3_size 5 = .ok (.aload_n 0, 1) := dk_42 (dk_at dksX3_size_0 5 rfl rfl)
theorem dX3_size_6 : decode cX3_size 6 = .ok (.iload_n 1, 1) := dk_27 (dk_at dksX3_size_0 6 rfl rfl)
theorem dX3_size_7 : decode cX3_size 7 = .ok (.invokevirtual 313, 3) := dk_182 1 57 (dk_at dksX3_size_0 7 rfl rfl)
theorem dX3_size_10 : decode cX3_size 10 = .ok (.ifCond .eq 14, 3) := dk_153 0 14 (dk_at dksX3_size_0 10 rfl rfl)
theorem dX3_size_13 : decode cX3_size 13 = .ok (.aload_n 0, 1) := dk_42 (dk_at dksX3_size_0 13 rfl rfl)
theorem dX3_size_14 : decode cX3_size 14 = .ok (.iload_n 2, 1) := dk_28 (dk_at dksX3_size_0 14 rfl rfl)
theorem dX3_size_15 : decode cX3_size 15 = .ok (.iconst 0, 1) := dk_3 (dk_at dksX3_size_0 15 rfl rfl)
theorem dX3_size_16 : decode cX3_size 16 = .ok (.bipush 60, 2) := dk_16 60 (dk_at dksX3_size_0 16 rfl rfl)
theorem dX3_size_18 : decode cX3_size 18 = .ok (.invokevirtual 107, 3) := dk_182 0 107 (dk_at dksX3_size_0 18 rfl rfl)
theorem dX3_size_21 : decode cX3_size 21 = .ok (.ifCond .ne 5, 3) := dk_154 0 5 (dk_at dksX3_size_0 21 rfl rfl)
theorem dX3_size_24 : decode cX3_size 24 = .ok (.iconst (-1), 1) := dk_2 (dk_at dksX3_size_1 0 rfl rfl)
theorem dX3_size_25 : decode cX3_size 25 = .ok (.ireturn, 1) := dk_172 (dk_at dksX3_size_1 1 rfl rfl)
theorem dX3_size_26 : decode cX3_size 26 = .ok (.aload_n 0, 1) := dk_42 (dk_at dksX3_size_1 2 rfl rfl)
theorem dX3_size_27 : decode cX3_size 27 = .ok (.invokevirtual 271, 3) := dk_182 1 15 (dk_at dksX3_size_1 3 rfl rfl)
theorem dX3_size_30 : decode cX3_size 30 = .ok (.iconst 0, 1) := dk_3 (dk_at dksX3_size_1 6 rfl rfl)
theorem dX3_size_31 : decode cX3_size 31 = .ok (.istore_n 3, 1) := dk_62 (dk_at dksX3_size_1 7 rfl rfl)
theorem dX3_size_32 : decode cX3_size 32 = .ok (.iload_n 3, 1) := dk_29 (dk_at dksX3_size_1 8 rfl rfl)
theorem dX3_size_33 : decode cX3_size 33 = .ok (.iload_n 2, 1) := dk_28 (dk_at dksX3_size_1 9 rfl rfl)
theorem dX3_size_34 : decode cX3_size 34 = .ok (.if_icmp .ge 26, 3) := dk_162 0 26 (dk_at dksX3_size_1 10 rfl rfl)
theorem dX3_size_37 : decode cX3_size 37 = .ok (.aload_n 0, 1) := dk_42 (dk_at dksX3_size_1 13 rfl rfl)
theorem dX3_size_38 : decode cX3_size 38 = .ok (.iload_n 3, 1) := dk_29 (dk_at dksX3_size_1 14 rfl rfl)
theorem dX3_size_39 : decode cX3_size 39 = .ok (.iload_n 3, 1) := dk_29 (dk_at dksX3_size_1 15 rfl rfl)
theorem dX3_size_40 : decode cX3_size 40 = .ok (.ifCond .ne 10, 3) := dk_154 0 10 (dk_at dksX3_size_1 16 rfl rfl)
theorem dX3_size_43 : decode cX3_size 43 = .ok (.aload_n 0, 1) := dk_42 (dk_at dksX3_size_1 19 rfl rfl)
theorem dX3_size_44 : decode cX3_size 44 = .ok (.getfield 120, 3) := dk_180 0 120 (dk_at dksX3_size_1 20 rfl rfl)
theorem dX3_size_47 : decode cX3_size 47 = .ok (.goto 4, 3) := dk_167 0 4 (dk_at dksX3_size_2 0 rfl rfl)
theorem dX3_size_50 : decode cX3_size 50 = .ok (.iconst 0, 1) := dk_3 (dk_at dksX3_size_2 3 rfl rfl)
theorem dX3_size_51 : decode cX3_size 51 = .ok (.invokevirtual 274, 3) := dk_182 1 18 (dk_at dksX3_size_2 4 rfl rfl)
theorem dX3_size_54 : decode cX3_size 54 = .ok (.iinc 3 1, 3) := dk_132 3 1 (dk_at dksX3_size_2 7 rfl rfl)
theorem dX3_size_57 : decode cX3_size 57 = .ok (.goto (-25), 3) := dk_167 255 231 (dk_at dksX3_size_2 10 rfl rfl)
theorem dX3_size_60 : decode cX3_size 60 = .ok (.aload_n 0, 1) := dk_42 (dk_at dksX3_size_2 13 rfl rfl)
theorem dX3_size_61 : decode cX3_size 61 = .ok (.getfield 71, 3) := dk_180 0 71 (dk_at dksX3_size_2 14 rfl rfl)
theorem dX3_size_64 : decode cX3_size 64 = .ok (.iload_n 1, 1) := dk_27 (dk_at dksX3_size_2 17 rfl rfl)
theorem dX3_size_65 : decode cX3_size 65 = .ok (.iaload, 1) := dk_46 (dk_at dksX3_size_2 18 rfl rfl)
theorem dX3_size_66 : decode cX3_size 66 = .ok (.ireturn, 1) := dk_172 (dk_at dksX3_size_2 19 rfl rfl)
abbrev cX3_isCap : ByteArray := prog_14_method_60_code
def yX3_isCap : MethodName := ⟨RX3, "isCap", "(I)Z"⟩
def dkwX3_isCap_1 : List UInt8 := [172]
abbrev dktX3_isCap_1 : List UInt8 := dkwX3_isCap_1 ++ []
def dkwX3_isCap_0 : List UInt8 := [42, 27, 182, 0, 129, 153, 0, 18, 42, 180, 0, 7, 3, 27, 96, 46, 158, 0, 7, 4, 167, 0, 4, 3]
abbrev dktX3_isCap_0 : List UInt8 := dkwX3_isCap_0 ++ dktX3_isCap_1
theorem dksX3_isCap_0 : cX3_isCap.data.toList.drop 0 = dktX3_isCap_0 := by decide +kernel
theorem dksX3_isCap_1 : cX3_isCap.data.toList.drop 24 = dktX3_isCap_1 := dk_seg dksX3_isCap_0 24 rfl rfl
theorem dX3_isCap_0 : decode cX3_isCap 0 = .ok (.aload_n 0, 1) := dk_42 (dk_at dksX3_isCap_0 0 rfl rfl)
theorem dX3_isCap_1 : decode cX3_isCap 1 = .ok (.iload_n 1, 1) := dk_27 (dk_at dksX3_isCap_0 1 rfl rfl)
theorem dX3_isCap_2 : decode cX3_isCap 2 = .ok (.invokevirtual 129, 3) := dk_182 0 129 (dk_at dksX3_isCap_0 2 rfl rfl)
theorem dX3_isCap_5 : decode cX3_isCap 5 = .ok (.ifCond .eq 18, 3) := dk_153 0 18 (dk_at dksX3_isCap_0 5 rfl rfl)
theorem dX3_isCap_8 : decode cX3_isCap 8 = .ok (.aload_n 0, 1) := dk_42 (dk_at dksX3_isCap_0 8 rfl rfl)
theorem dX3_isCap_9 : decode cX3_isCap 9 = .ok (.getfield 7, 3) := dk_180 0 7 (dk_at dksX3_isCap_0 9 rfl rfl)
theorem dX3_isCap_12 : decode cX3_isCap 12 = .ok (.iconst 0, 1) := dk_3 (dk_at dksX3_isCap_0 12 rfl rfl)
theorem dX3_isCap_13 : decode cX3_isCap 13 = .ok (.iload_n 1, 1) := dk_27 (dk_at dksX3_isCap_0 13 rfl rfl)
theorem dX3_isCap_14 : decode cX3_isCap 14 = .ok (.iadd, 1) := dk_96 (dk_at dksX3_isCap_0 14 rfl rfl)
theorem dX3_isCap_15 : decode cX3_isCap 15 = .ok (.iaload, 1) := dk_46 (dk_at dksX3_isCap_0 15 rfl rfl)
theorem dX3_isCap_16 : decode cX3_isCap 16 = .ok (.ifCond .le 7, 3) := dk_158 0 7 (dk_at dksX3_isCap_0 16 rfl rfl)
theorem dX3_isCap_19 : decode cX3_isCap 19 = .ok (.iconst 1, 1) := dk_4 (dk_at dksX3_isCap_0 19 rfl rfl)
theorem dX3_isCap_20 : decode cX3_isCap 20 = .ok (.goto 4, 3) := dk_167 0 4 (dk_at dksX3_isCap_0 20 rfl rfl)
theorem dX3_isCap_23 : decode cX3_isCap 23 = .ok (.iconst 0, 1) := dk_3 (dk_at dksX3_isCap_0 23 rfl rfl)
theorem dX3_isCap_24 : decode cX3_isCap 24 = .ok (.ireturn, 1) := dk_172 (dk_at dksX3_isCap_1 0 rfl rfl)
abbrev cX3_full : ByteArray := prog_14_method_79_code
def yX3_full : MethodName := ⟨RX3, "full", "(I)I"⟩
def dkwX3_full_2 : List UInt8 := [182, 1, 18, 132, 2, 1, 167, 255, 220, 2, 172]
abbrev dktX3_full_2 : List UInt8 := dkwX3_full_2 ++ []
def dkwX3_full_1 : List UInt8 := [182, 1, 60, 27, 161, 0, 5, 28, 172, 42, 28, 28, 154, 0, 10, 42, 180, 0, 120, 167, 0, 4, 3]
abbrev dktX3_full_1 : List UInt8 := dkwX3_full_1 ++ dktX3_full_2
def dkwX3_full_0 : List UInt8 := [42, 3, 181, 0, 86, 27, 156, 0, 5, 2, 172, 42, 182, 1, 15, 3, 61, 28, 16, 60, 163, 0, 36, 42]
abbrev dktX3_full_0 : List UInt8 := dkwX3_full_0 ++ dktX3_full_1
theorem dksX3_full_0 : cX3_full.data.toList.drop 0 = dktX3_full_0 := by decide +kernel
theorem dksX3_full_1 : cX3_full.data.toList.drop 24 = dktX3_full_1 := dk_seg dksX3_full_0 24 rfl rfl
theorem dksX3_full_2 : cX3_full.data.toList.drop 47 = dktX3_full_2 := dk_seg dksX3_full_1 23 rfl rfl
theorem dX3_full_0 : decode cX3_full 0 = .ok (.aload_n 0, 1) := dk_42 (dk_at dksX3_full_0 0 rfl rfl)
theorem dX3_full_1 : decode cX3_full 1 = .ok (.iconst 0, 1) := dk_3 (dk_at dksX3_full_0 1 rfl rfl)
theorem dX3_full_2 : decode cX3_full 2 = .ok (.putfield 86, 3) := dk_181 0 86 (dk_at dksX3_full_0 2 rfl rfl)
theorem dX3_full_5 : decode cX3_full 5 = .ok (.iload_n 1, 1) := dk_27 (dk_at dksX3_full_0 5 rfl rfl)
theorem dX3_full_6 : decode cX3_full 6 = .ok (.ifCond .ge 5, 3) := dk_156 0 5 (dk_at dksX3_full_0 6 rfl rfl)
theorem dX3_full_9 : decode cX3_full 9 = .ok (.iconst (-1), 1) := dk_2 (dk_at dksX3_full_0 9 rfl rfl)
theorem dX3_full_10 : decode cX3_full 10 = .ok (.ireturn, 1) := dk_172 (dk_at dksX3_full_0 10 rfl rfl)
theorem dX3_full_11 : decode cX3_full 11 = .ok (.aload_n 0, 1) := dk_42 (dk_at dksX3_full_0 11 rfl rfl)
theorem dX3_full_12 : decode cX3_full 12 = .ok (.invokevirtual 271, 3) := dk_182 1 15 (dk_at dksX3_full_0 12 rfl rfl)
theorem dX3_full_15 : decode cX3_full 15 = .ok (.iconst 0, 1) := dk_3 (dk_at dksX3_full_0 15 rfl rfl)
theorem dX3_full_16 : decode cX3_full 16 = .ok (.istore_n 2, 1) := dk_61 (dk_at dksX3_full_0 16 rfl rfl)
theorem dX3_full_17 : decode cX3_full 17 = .ok (.iload_n 2, 1) := dk_28 (dk_at dksX3_full_0 17 rfl rfl)
theorem dX3_full_18 : decode cX3_full 18 = .ok (.bipush 60, 2) := dk_16 60 (dk_at dksX3_full_0 18 rfl rfl)
theorem dX3_full_20 : decode cX3_full 20 = .ok (.if_icmp .gt 36, 3) := dk_163 0 36 (dk_at dksX3_full_0 20 rfl rfl)
theorem dX3_full_23 : decode cX3_full 23 = .ok (.aload_n 0, 1) := dk_42 (dk_at dksX3_full_0 23 rfl rfl)
theorem dX3_full_24 : decode cX3_full 24 = .ok (.invokevirtual 316, 3) := dk_182 1 60 (dk_at dksX3_full_1 0 rfl rfl)
theorem dX3_full_27 : decode cX3_full 27 = .ok (.iload_n 1, 1) := dk_27 (dk_at dksX3_full_1 3 rfl rfl)
theorem dX3_full_28 : decode cX3_full 28 = .ok (.if_icmp .lt 5, 3) := dk_161 0 5 (dk_at dksX3_full_1 4 rfl rfl)
theorem dX3_full_31 : decode cX3_full 31 = .ok (.iload_n 2, 1) := dk_28 (dk_at dksX3_full_1 7 rfl rfl)
theorem dX3_full_32 : decode cX3_full 32 = .ok (.ireturn, 1) := dk_172 (dk_at dksX3_full_1 8 rfl rfl)
theorem dX3_full_33 : decode cX3_full 33 = .ok (.aload_n 0, 1) := dk_42 (dk_at dksX3_full_1 9 rfl rfl)
theorem dX3_full_34 : decode cX3_full 34 = .ok (.iload_n 2, 1) := dk_28 (dk_at dksX3_full_1 10 rfl rfl)
theorem dX3_full_35 : decode cX3_full 35 = .ok (.iload_n 2, 1) := dk_28 (dk_at dksX3_full_1 11 rfl rfl)
theorem dX3_full_36 : decode cX3_full 36 = .ok (.ifCond .ne 10, 3) := dk_154 0 10 (dk_at dksX3_full_1 12 rfl rfl)
theorem dX3_full_39 : decode cX3_full 39 = .ok (.aload_n 0, 1) := dk_42 (dk_at dksX3_full_1 15 rfl rfl)
theorem dX3_full_40 : decode cX3_full 40 = .ok (.getfield 120, 3) := dk_180 0 120 (dk_at dksX3_full_1 16 rfl rfl)
theorem dX3_full_43 : decode cX3_full 43 = .ok (.goto 4, 3) := dk_167 0 4 (dk_at dksX3_full_1 19 rfl rfl)
theorem dX3_full_46 : decode cX3_full 46 = .ok (.iconst 0, 1) := dk_3 (dk_at dksX3_full_1 22 rfl rfl)
theorem dX3_full_47 : decode cX3_full 47 = .ok (.invokevirtual 274, 3) := dk_182 1 18 (dk_at dksX3_full_2 0 rfl rfl)
theorem dX3_full_50 : decode cX3_full 50 = .ok (.iinc 2 1, 3) := dk_132 2 1 (dk_at dksX3_full_2 3 rfl rfl)
theorem dX3_full_53 : decode cX3_full 53 = .ok (.goto (-36), 3) := dk_167 255 220 (dk_at dksX3_full_2 6 rfl rfl)
theorem dX3_full_56 : decode cX3_full 56 = .ok (.iconst (-1), 1) := dk_2 (dk_at dksX3_full_2 9 rfl rfl)
theorem dX3_full_57 : decode cX3_full 57 = .ok (.ireturn, 1) := dk_172 (dk_at dksX3_full_2 10 rfl rfl)
abbrev cX3_allSizes : ByteArray := prog_14_method_78_code
def yX3_allSizes : MethodName := ⟨RX3, "allSizes", "()I"⟩
def dkwX3_allSizes_1 : List UInt8 := [180, 0, 71, 28, 46, 96, 60, 132, 2, 1, 167, 255, 227, 27, 172]
abbrev dktX3_allSizes_1 : List UInt8 := dkwX3_allSizes_1 ++ []
def dkwX3_allSizes_0 : List UInt8 := [3, 60, 3, 61, 28, 16, 64, 162, 0, 29, 42, 180, 0, 7, 3, 28, 96, 46, 158, 0, 12, 27, 42]
abbrev dktX3_allSizes_0 : List UInt8 := dkwX3_allSizes_0 ++ dktX3_allSizes_1
theorem dksX3_allSizes_0 : cX3_allSizes.data.toList.drop 0 = dktX3_allSizes_0 := by decide +kernel
theorem dksX3_allSizes_1 : cX3_allSizes.data.toList.drop 23 = dktX3_allSizes_1 := dk_seg dksX3_allSizes_0 23 rfl rfl
theorem dX3_allSizes_0 : decode cX3_allSizes 0 = .ok (.iconst 0, 1) := dk_3 (dk_at dksX3_allSizes_0 0 rfl rfl)
theorem dX3_allSizes_1 : decode cX3_allSizes 1 = .ok (.istore_n 1, 1) := dk_60 (dk_at dksX3_allSizes_0 1 rfl rfl)
theorem dX3_allSizes_2 : decode cX3_allSizes 2 = .ok (.iconst 0, 1) := dk_3 (dk_at dksX3_allSizes_0 2 rfl rfl)
theorem dX3_allSizes_3 : decode cX3_allSizes 3 = .ok (.istore_n 2, 1) := dk_61 (dk_at dksX3_allSizes_0 3 rfl rfl)
theorem dX3_allSizes_4 : decode cX3_allSizes 4 = .ok (.iload_n 2, 1) := dk_28 (dk_at dksX3_allSizes_0 4 rfl rfl)
theorem dX3_allSizes_5 : decode cX3_allSizes 5 = .ok (.bipush 64, 2) := dk_16 64 (dk_at dksX3_allSizes_0 5 rfl rfl)
theorem dX3_allSizes_7 : decode cX3_allSizes 7 = .ok (.if_icmp .ge 29, 3) := dk_162 0 29 (dk_at dksX3_allSizes_0 7 rfl rfl)
theorem dX3_allSizes_10 : decode cX3_allSizes 10 = .ok (.aload_n 0, 1) := dk_42 (dk_at dksX3_allSizes_0 10 rfl rfl)
theorem dX3_allSizes_11 : decode cX3_allSizes 11 = .ok (.getfield 7, 3) := dk_180 0 7 (dk_at dksX3_allSizes_0 11 rfl rfl)
theorem dX3_allSizes_14 : decode cX3_allSizes 14 = .ok (.iconst 0, 1) := dk_3 (dk_at dksX3_allSizes_0 14 rfl rfl)
theorem dX3_allSizes_15 : decode cX3_allSizes 15 = .ok (.iload_n 2, 1) := dk_28 (dk_at dksX3_allSizes_0 15 rfl rfl)
theorem dX3_allSizes_16 : decode cX3_allSizes 16 = .ok (.iadd, 1) := dk_96 (dk_at dksX3_allSizes_0 16 rfl rfl)
theorem dX3_allSizes_17 : decode cX3_allSizes 17 = .ok (.iaload, 1) := dk_46 (dk_at dksX3_allSizes_0 17 rfl rfl)
theorem dX3_allSizes_18 : decode cX3_allSizes 18 = .ok (.ifCond .le 12, 3) := dk_158 0 12 (dk_at dksX3_allSizes_0 18 rfl rfl)
theorem dX3_allSizes_21 : decode cX3_allSizes 21 = .ok (.iload_n 1, 1) := dk_27 (dk_at dksX3_allSizes_0 21 rfl rfl)
theorem dX3_allSizes_22 : decode cX3_allSizes 22 = .ok (.aload_n 0, 1) := dk_42 (dk_at dksX3_allSizes_0 22 rfl rfl)
theorem dX3_allSizes_23 : decode cX3_allSizes 23 = .ok (.getfield 71, 3) := dk_180 0 71 (dk_at dksX3_allSizes_1 0 rfl rfl)
theorem dX3_allSizes_26 : decode cX3_allSizes 26 = .ok (.iload_n 2, 1) := dk_28 (dk_at dksX3_allSizes_1 3 rfl rfl)
theorem dX3_allSizes_27 : decode cX3_allSizes 27 = .ok (.iaload, 1) := dk_46 (dk_at dksX3_allSizes_1 4 rfl rfl)
theorem dX3_allSizes_28 : decode cX3_allSizes 28 = .ok (.iadd, 1) := dk_96 (dk_at dksX3_allSizes_1 5 rfl rfl)
theorem dX3_allSizes_29 : decode cX3_allSizes 29 = .ok (.istore_n 1, 1) := dk_60 (dk_at dksX3_allSizes_1 6 rfl rfl)
theorem dX3_allSizes_30 : decode cX3_allSizes 30 = .ok (.iinc 2 1, 3) := dk_132 2 1 (dk_at dksX3_allSizes_1 7 rfl rfl)
theorem dX3_allSizes_33 : decode cX3_allSizes 33 = .ok (.goto (-29), 3) := dk_167 255 227 (dk_at dksX3_allSizes_1 10 rfl rfl)
theorem dX3_allSizes_36 : decode cX3_allSizes 36 = .ok (.iload_n 1, 1) := dk_27 (dk_at dksX3_allSizes_1 13 rfl rfl)
theorem dX3_allSizes_37 : decode cX3_allSizes 37 = .ok (.ireturn, 1) := dk_172 (dk_at dksX3_allSizes_1 14 rfl rfl)
abbrev cX3_went : ByteArray := prog_14_method_80_code
def yX3_went : MethodName := ⟨RX3, "went", "(IIII)I"⟩
def dkwX3_went_4 : List UInt8 := [128, 54, 5, 132, 6, 1, 167, 255, 183, 21, 5, 172]
abbrev dktX3_went_4 : List UInt8 := dkwX3_went_4 ++ []
def dkwX3_went_3 : List UInt8 := [96, 46, 29, 21, 4, 182, 0, 107, 153, 0, 19, 21, 5, 4, 42, 180, 0, 35, 7, 21, 6, 104, 46, 120]
abbrev dktX3_went_3 : List UInt8 := dkwX3_went_3 ++ dktX3_went_4
def dkwX3_went_2 : List UInt8 := [21, 6, 104, 4, 96, 46, 27, 182, 0, 253, 28, 163, 0, 40, 42, 42, 180, 0, 35, 7, 21, 6, 104, 6]
abbrev dktX3_went_2 : List UInt8 := dkwX3_went_2 ++ dktX3_went_3
def dkwX3_went_1 : List UInt8 := [54, 5, 3, 54, 6, 21, 6, 42, 180, 0, 7, 17, 1, 91, 46, 162, 0, 66, 42, 42, 180, 0, 35, 7]
abbrev dktX3_went_1 : List UInt8 := dkwX3_went_1 ++ dktX3_went_2
def dkwX3_went_0 : List UInt8 := [42, 3, 181, 0, 86, 42, 27, 28, 182, 1, 41, 153, 0, 9, 21, 4, 29, 162, 0, 5, 2, 172, 3]
abbrev dktX3_went_0 : List UInt8 := dkwX3_went_0 ++ dktX3_went_1
theorem dksX3_went_0 : cX3_went.data.toList.drop 0 = dktX3_went_0 := by decide +kernel
theorem dksX3_went_1 : cX3_went.data.toList.drop 23 = dktX3_went_1 := dk_seg dksX3_went_0 23 rfl rfl
theorem dksX3_went_2 : cX3_went.data.toList.drop 47 = dktX3_went_2 := dk_seg dksX3_went_1 24 rfl rfl
theorem dksX3_went_3 : cX3_went.data.toList.drop 71 = dktX3_went_3 := dk_seg dksX3_went_2 24 rfl rfl
theorem dksX3_went_4 : cX3_went.data.toList.drop 95 = dktX3_went_4 := dk_seg dksX3_went_3 24 rfl rfl
theorem dX3_went_0 : decode cX3_went 0 = .ok (.aload_n 0, 1) := dk_42 (dk_at dksX3_went_0 0 rfl rfl)
theorem dX3_went_1 : decode cX3_went 1 = .ok (.iconst 0, 1) := dk_3 (dk_at dksX3_went_0 1 rfl rfl)
theorem dX3_went_2 : decode cX3_went 2 = .ok (.putfield 86, 3) := dk_181 0 86 (dk_at dksX3_went_0 2 rfl rfl)
theorem dX3_went_5 : decode cX3_went 5 = .ok (.aload_n 0, 1) := dk_42 (dk_at dksX3_went_0 5 rfl rfl)
theorem dX3_went_6 : decode cX3_went 6 = .ok (.iload_n 1, 1) := dk_27 (dk_at dksX3_went_0 6 rfl rfl)
theorem dX3_went_7 : decode cX3_went 7 = .ok (.iload_n 2, 1) := dk_28 (dk_at dksX3_went_0 7 rfl rfl)
theorem dX3_went_8 : decode cX3_went 8 = .ok (.invokevirtual 297, 3) := dk_182 1 41 (dk_at dksX3_went_0 8 rfl rfl)
theorem dX3_went_11 : decode cX3_went 11 = .ok (.ifCond .eq 9, 3) := dk_153 0 9 (dk_at dksX3_went_0 11 rfl rfl)
theorem dX3_went_14 : decode cX3_went 14 = .ok (.iload 4, 2) := dk_21 4 (dk_at dksX3_went_0 14 rfl rfl)
theorem dX3_went_16 : decode cX3_went 16 = .ok (.iload_n 3, 1) := dk_29 (dk_at dksX3_went_0 16 rfl rfl)
theorem dX3_went_17 : decode cX3_went 17 = .ok (.if_icmp .ge 5, 3) := dk_162 0 5 (dk_at dksX3_went_0 17 rfl rfl)
theorem dX3_went_20 : decode cX3_went 20 = .ok (.iconst (-1), 1) := dk_2 (dk_at dksX3_went_0 20 rfl rfl)
theorem dX3_went_21 : decode cX3_went 21 = .ok (.ireturn, 1) := dk_172 (dk_at dksX3_went_0 21 rfl rfl)
theorem dX3_went_22 : decode cX3_went 22 = .ok (.iconst 0, 1) := dk_3 (dk_at dksX3_went_0 22 rfl rfl)
theorem dX3_went_23 : decode cX3_went 23 = .ok (.istore 5, 2) := dk_54 5 (dk_at dksX3_went_1 0 rfl rfl)
theorem dX3_went_25 : decode cX3_went 25 = .ok (.iconst 0, 1) := dk_3 (dk_at dksX3_went_1 2 rfl rfl)
theorem dX3_went_26 : decode cX3_went 26 = .ok (.istore 6, 2) := dk_54 6 (dk_at dksX3_went_1 3 rfl rfl)
theorem dX3_went_28 : decode cX3_went 28 = .ok (.iload 6, 2) := dk_21 6 (dk_at dksX3_went_1 5 rfl rfl)
theorem dX3_went_30 : decode cX3_went 30 = .ok (.aload_n 0, 1) := dk_42 (dk_at dksX3_went_1 7 rfl rfl)
theorem dX3_went_31 : decode cX3_went 31 = .ok (.getfield 7, 3) := dk_180 0 7 (dk_at dksX3_went_1 8 rfl rfl)
theorem dX3_went_34 : decode cX3_went 34 = .ok (.sipush 347, 3) := dk_17 1 91 (dk_at dksX3_went_1 11 rfl rfl)
theorem dX3_went_37 : decode cX3_went 37 = .ok (.iaload, 1) := dk_46 (dk_at dksX3_went_1 14 rfl rfl)
theorem dX3_went_38 : decode cX3_went 38 = .ok (.if_icmp .ge 66, 3) := dk_162 0 66 (dk_at dksX3_went_1 15 rfl rfl)
theorem dX3_went_41 : decode cX3_went 41 = .ok (.aload_n 0, 1) := dk_42 (dk_at dksX3_went_1 18 rfl rfl)
theorem dX3_went_42 : decode cX3_went 42 = .ok (.aload_n 0, 1) := dk_42 (dk_at dksX3_went_1 19 rfl rfl)
theorem dX3_went_43 : decode cX3_went 43 = .ok (.getfield 35, 3) := dk_180 0 35 (dk_at dksX3_went_1 20 rfl rfl)
theorem dX3_went_46 : decode cX3_went 46 = .ok (.iconst 4, 1) := dk_7 (dk_at dksX3_went_1 23 rfl rfl)
theorem dX3_went_47 : decode cX3_went 47 = .ok (.iload 6, 2) := dk_21 6 (dk_at dksX3_went_2 0 rfl rfl)
theorem dX3_went_49 : decode cX3_went 49 = .ok (.imul, 1) := dk_104 (dk_at dksX3_went_2 2 rfl rfl)
theorem dX3_went_50 : decode cX3_went 50 = .ok (.iconst 1, 1) := dk_4 (dk_at dksX3_went_2 3 rfl rfl)
theorem dX3_went_51 : decode cX3_went 51 = .ok (.iadd, 1) := dk_96 (dk_at dksX3_went_2 4 rfl rfl)
theorem dX3_went_52 : decode cX3_went 52 = .ok (.iaload, 1) := dk_46 (dk_at dksX3_went_2 5 rfl rfl)
theorem dX3_went_53 : decode cX3_went 53 = .ok (.iload_n 1, 1) := dk_27 (dk_at dksX3_went_2 6 rfl rfl)
theorem dX3_went_54 : decode cX3_went 54 = .ok (.invokevirtual 253, 3) := dk_182 0 253 (dk_at dksX3_went_2 7 rfl rfl)
theorem dX3_went_57 : decode cX3_went 57 = .ok (.iload_n 2, 1) := dk_28 (dk_at dksX3_went_2 10 rfl rfl)
theorem dX3_went_58 : decode cX3_went 58 = .ok (.if_icmp .gt 40, 3) := dk_163 0 40 (dk_at dksX3_went_2 11 rfl rfl)
theorem dX3_went_61 : decode cX3_went 61 = .ok (.aload_n 0, 1) := dk_42 (dk_at dksX3_went_2 14 rfl rfl)
theorem dX3_went_62 : decode cX3_went 62 = .ok (.aload_n 0, 1) := dk_42 (dk_at dksX3_went_2 15 rfl rfl)
theorem dX3_went_63 : decode cX3_went 63 = .ok (.getfield 35, 3) := dk_180 0 35 (dk_at dksX3_went_2 16 rfl rfl)
theorem dX3_went_66 : decode cX3_went 66 = .ok (.iconst 4, 1) := dk_7 (dk_at dksX3_went_2 19 rfl rfl)
theorem dX3_went_67 : decode cX3_went 67 = .ok (.iload 6, 2) := dk_21 6 (dk_at dksX3_went_2 20 rfl rfl)
theorem dX3_went_69 : decode cX3_went 69 = .ok (.imul, 1) := dk_104 (dk_at dksX3_went_2 22 rfl rfl)
theorem dX3_went_70 : decode cX3_went 70 = .ok (.iconst 3, 1) := dk_6 (dk_at dksX3_went_2 23 rfl rfl)
theorem dX3_went_71 : decode cX3_went 71 = .ok (.iadd, 1) := dk_96 (dk_at dksX3_went_3 0 rfl rfl)
theorem dX3_went_72 : decode cX3_went 72 = .ok (.iaload, 1) := dk_46 (dk_at dksX3_went_3 1 rfl rfl)
theorem dX3_went_73 : decode cX3_went 73 = .ok (.iload_n 3, 1) := dk_29 (dk_at dksX3_went_3 2 rfl rfl)
theorem dX3_went_74 : decode cX3_went 74 = .ok (.iload 4, 2) := dk_21 4 (dk_at dksX3_went_3 3 rfl rfl)
theorem dX3_went_76 : decode cX3_went 76 = .ok (.invokevirtual 107, 3) := dk_182 0 107 (dk_at dksX3_went_3 5 rfl rfl)
theorem dX3_went_79 : decode cX3_went 79 = .ok (.ifCond .eq 19, 3) := dk_153 0 19 (dk_at dksX3_went_3 8 rfl rfl)
theorem dX3_went_82 : decode cX3_went 82 = .ok (.iload 5, 2) := dk_21 5 (dk_at dksX3_went_3 11 rfl rfl)
theorem dX3_went_84 : decode cX3_went 84 = .ok (.iconst 1, 1) := dk_4 (dk_at dksX3_went_3 13 rfl rfl)
theorem dX3_went_85 : decode cX3_went 85 = .ok (.aload_n 0, 1) := dk_42 (dk_at dksX3_went_3 14 rfl rfl)
theorem dX3_went_86 : decode cX3_went 86 = .ok (.getfield 35, 3) := dk_180 0 35 (dk_at dksX3_went_3 15 rfl rfl)
theorem dX3_went_89 : decode cX3_went 89 = .ok (.iconst 4, 1) := dk_7 (dk_at dksX3_went_3 18 rfl rfl)
theorem dX3_went_90 : decode cX3_went 90 = .ok (.iload 6, 2) := dk_21 6 (dk_at dksX3_went_3 19 rfl rfl)
theorem dX3_went_92 : decode cX3_went 92 = .ok (.imul, 1) := dk_104 (dk_at dksX3_went_3 21 rfl rfl)
theorem dX3_went_93 : decode cX3_went 93 = .ok (.iaload, 1) := dk_46 (dk_at dksX3_went_3 22 rfl rfl)
theorem dX3_went_94 : decode cX3_went 94 = .ok (.ishl, 1) := dk_120 (dk_at dksX3_went_3 23 rfl rfl)
theorem dX3_went_95 : decode cX3_went 95 = .ok (.ior, 1) := dk_128 (dk_at dksX3_went_4 0 rfl rfl)
theorem dX3_went_96 : decode cX3_went 96 = .ok (.istore 5, 2) := dk_54 5 (dk_at dksX3_went_4 1 rfl rfl)
theorem dX3_went_98 : decode cX3_went 98 = .ok (.iinc 6 1, 3) := dk_132 6 1 (dk_at dksX3_went_4 3 rfl rfl)
theorem dX3_went_101 : decode cX3_went 101 = .ok (.goto (-73), 3) := dk_167 255 183 (dk_at dksX3_went_4 6 rfl rfl)
theorem dX3_went_104 : decode cX3_went 104 = .ok (.iload 5, 2) := dk_21 5 (dk_at dksX3_went_4 9 rfl rfl)
theorem dX3_went_106 : decode cX3_went 106 = .ok (.ireturn, 1) := dk_172 (dk_at dksX3_went_4 11 rfl rfl)
abbrev cX3_image : ByteArray := prog_14_method_83_code
def yX3_image : MethodName := ⟨RX3, "image", "(Z)Z"⟩
def dkwX3_image_13 : List UInt8 := [182, 1, 76, 27, 154, 0, 8, 42, 3, 181, 0, 89, 4, 172]
abbrev dktX3_image_13 : List UInt8 := dkwX3_image_13 ++ []
def dkwX3_image_12 : List UInt8 := [180, 0, 120, 182, 1, 70, 181, 0, 120, 42, 42, 42, 180, 0, 123, 182, 1, 70, 181, 0, 123, 42]
abbrev dktX3_image_12 : List UInt8 := dkwX3_image_12 ++ dktX3_image_13
def dkwX3_image_11 : List UInt8 := [180, 0, 114, 182, 1, 70, 181, 0, 114, 42, 42, 42, 180, 0, 117, 182, 1, 70, 181, 0, 117, 42, 42, 42]
abbrev dktX3_image_11 : List UInt8 := dkwX3_image_11 ++ dktX3_image_12
def dkwX3_image_10 : List UInt8 := [180, 0, 100, 182, 1, 70, 181, 0, 100, 42, 42, 42, 180, 0, 111, 182, 1, 70, 181, 0, 111, 42, 42, 42]
abbrev dktX3_image_10 : List UInt8 := dkwX3_image_10 ++ dktX3_image_11
def dkwX3_image_9 : List UInt8 := [180, 0, 20, 182, 1, 70, 181, 0, 20, 42, 42, 42, 180, 0, 97, 182, 1, 70, 181, 0, 97, 42, 42, 42]
abbrev dktX3_image_9 : List UInt8 := dkwX3_image_9 ++ dktX3_image_10
def dkwX3_image_8 : List UInt8 := [180, 0, 92, 182, 1, 70, 181, 0, 92, 42, 42, 42, 180, 0, 16, 182, 1, 70, 181, 0, 16, 42, 42, 42]
abbrev dktX3_image_8 : List UInt8 := dkwX3_image_8 ++ dktX3_image_9
def dkwX3_image_7 : List UInt8 := [180, 0, 32, 28, 42, 42, 180, 0, 32, 28, 46, 182, 1, 70, 79, 132, 2, 1, 167, 255, 199, 42, 42, 42]
abbrev dktX3_image_7 : List UInt8 := dkwX3_image_7 ++ dktX3_image_8
def dkwX3_image_6 : List UInt8 := [28, 46, 182, 1, 70, 79, 42, 180, 0, 29, 28, 42, 42, 180, 0, 29, 28, 46, 182, 1, 70, 79, 42]
abbrev dktX3_image_6 : List UInt8 := dkwX3_image_6 ++ dktX3_image_7
def dkwX3_image_5 : List UInt8 := [132, 2, 1, 167, 255, 230, 3, 61, 28, 16, 12, 162, 0, 57, 42, 180, 0, 26, 28, 42, 42, 180, 0, 26]
abbrev dktX3_image_5 : List UInt8 := dkwX3_image_5 ++ dktX3_image_6
def dkwX3_image_4 : List UInt8 := [28, 17, 1, 144, 162, 0, 25, 42, 180, 0, 35, 28, 42, 42, 180, 0, 35, 28, 46, 182, 1, 70, 79]
abbrev dktX3_image_4 : List UInt8 := dkwX3_image_4 ++ dktX3_image_5
def dkwX3_image_3 : List UInt8 := [42, 180, 0, 23, 28, 42, 42, 180, 0, 23, 28, 46, 182, 1, 70, 79, 132, 2, 1, 167, 255, 231, 3, 61]
abbrev dktX3_image_3 : List UInt8 := dkwX3_image_3 ++ dktX3_image_4
def dkwX3_image_2 : List UInt8 := [42, 180, 0, 7, 28, 46, 182, 1, 70, 79, 132, 2, 1, 167, 255, 230, 3, 61, 28, 16, 64, 162, 0, 25]
abbrev dktX3_image_2 : List UInt8 := dkwX3_image_2 ++ dktX3_image_3
def dkwX3_image_1 : List UInt8 := [4, 181, 1, 73, 42, 3, 181, 1, 63, 3, 61, 28, 17, 1, 92, 162, 0, 25, 42, 180, 0, 7, 28, 42]
abbrev dktX3_image_1 : List UInt8 := dkwX3_image_1 ++ dktX3_image_2
def dkwX3_image_0 : List UInt8 := [42, 3, 181, 0, 86, 27, 154, 0, 12, 42, 180, 1, 73, 154, 0, 5, 3, 172, 42, 27, 181, 1, 66, 42]
abbrev dktX3_image_0 : List UInt8 := dkwX3_image_0 ++ dktX3_image_1
theorem dksX3_image_0 : cX3_image.data.toList.drop 0 = dktX3_image_0 := by decide +kernel
theorem dksX3_image_1 : cX3_image.data.toList.drop 24 = dktX3_image_1 := dk_seg dksX3_image_0 24 rfl rfl
theorem dksX3_image_2 : cX3_image.data.toList.drop 48 = dktX3_image_2 := dk_seg dksX3_image_1 24 rfl rfl
theorem dksX3_image_3 : cX3_image.data.toList.drop 72 = dktX3_image_3 := dk_seg dksX3_image_2 24 rfl rfl
theorem dksX3_image_4 : cX3_image.data.toList.drop 96 = dktX3_image_4 := dk_seg dksX3_image_3 24 rfl rfl
theorem dksX3_image_5 : cX3_image.data.toList.drop 119 = dktX3_image_5 := dk_seg dksX3_image_4 23 rfl rfl
theorem dksX3_image_6 : cX3_image.data.toList.drop 143 = dktX3_image_6 := dk_seg dksX3_image_5 24 rfl rfl
theorem dksX3_image_7 : cX3_image.data.toList.drop 166 = dktX3_image_7 := dk_seg dksX3_image_6 23 rfl rfl
theorem dksX3_image_8 : cX3_image.data.toList.drop 190 = dktX3_image_8 := dk_seg dksX3_image_7 24 rfl rfl
theorem dksX3_image_9 : cX3_image.data.toList.drop 214 = dktX3_image_9 := dk_seg dksX3_image_8 24 rfl rfl
theorem dksX3_image_10 : cX3_image.data.toList.drop 238 = dktX3_image_10 := dk_seg dksX3_image_9 24 rfl rfl
theorem dksX3_image_11 : cX3_image.data.toList.drop 262 = dktX3_image_11 := dk_seg dksX3_image_10 24 rfl rfl
theorem dksX3_image_12 : cX3_image.data.toList.drop 286 = dktX3_image_12 := dk_seg dksX3_image_11 24 rfl rfl
theorem dksX3_image_13 : cX3_image.data.toList.drop 308 = dktX3_image_13 := dk_seg dksX3_image_12 22 rfl rfl
theorem dX3_image_0 : decode cX3_image 0 = .ok (.aload_n 0, 1) := dk_42 (dk_at dksX3_image_0 0 rfl rfl)
theorem dX3_image_1 : decode cX3_image 1 = .ok (.iconst 0, 1) := dk_3 (dk_at dksX3_image_0 1 rfl rfl)
theorem dX3_image_2 : decode cX3_image 2 = .ok (.putfield 86, 3) := dk_181 0 86 (dk_at dksX3_image_0 2 rfl rfl)
theorem dX3_image_5 : decode cX3_image 5 = .ok (.iload_n 1, 1) := dk_27 (dk_at dksX3_image_0 5 rfl rfl)
theorem dX3_image_6 : decode cX3_image 6 = .ok (.ifCond .ne 12, 3) := dk_154 0 12 (dk_at dksX3_image_0 6 rfl rfl)
theorem dX3_image_9 : decode cX3_image 9 = .ok (.aload_n 0, 1) := dk_42 (dk_at dksX3_image_0 9 rfl rfl)
theorem dX3_image_10 : decode cX3_image 10 = .ok (.getfield 329, 3) := dk_180 1 73 (dk_at dksX3_image_0 10 rfl rfl)
theorem dX3_image_13 : decode cX3_image 13 = .ok (.ifCond .ne 5, 3) := dk_154 0 5 (dk_at dksX3_image_0 13 rfl rfl)
theorem dX3_image_16 : decode cX3_image 16 = .ok (.iconst 0, 1) := dk_3 (dk_at dksX3_image_0 16 rfl rfl)
theorem dX3_image_17 : decode cX3_image 17 = .ok (.ireturn, 1) := dk_172 (dk_at dksX3_image_0 17 rfl rfl)
theorem dX3_image_18 : decode cX3_image 18 = .ok (.aload_n 0, 1) := dk_42 (dk_at dksX3_image_0 18 rfl rfl)
theorem dX3_image_19 : decode cX3_image 19 = .ok (.iload_n 1, 1) := dk_27 (dk_at dksX3_image_0 19 rfl rfl)
theorem dX3_image_20 : decode cX3_image 20 = .ok (.putfield 322, 3) := dk_181 1 66 (dk_at dksX3_image_0 20 rfl rfl)
theorem dX3_image_23 : decode cX3_image 23 = .ok (.aload_n 0, 1) := dk_42 (dk_at dksX3_image_0 23 rfl rfl)
theorem dX3_image_24 : decode cX3_image 24 = .ok (.iconst 1, 1) := dk_4 (dk_at dksX3_image_1 0 rfl rfl)
theorem dX3_image_25 : decode cX3_image 25 = .ok (.putfield 329, 3) := dk_181 1 73 (dk_at dksX3_image_1 1 rfl rfl)
theorem dX3_image_28 : decode cX3_image 28 = .ok (.aload_n 0, 1) := dk_42 (dk_at dksX3_image_1 4 rfl rfl)
theorem dX3_image_29 : decode cX3_image 29 = .ok (.iconst 0, 1) := dk_3 (dk_at dksX3_image_1 5 rfl rfl)
theorem dX3_image_30 : decode cX3_image 30 = .ok (.putfield 319, 3) := dk_181 1 63 (dk_at dksX3_image_1 6 rfl rfl)
theorem dX3_image_33 : decode cX3_image 33 = .ok (.iconst 0, 1) := dk_3 (dk_at dksX3_image_1 9 rfl rfl)
theorem dX3_image_34 : decode cX3_image 34 = .ok (.istore_n 2, 1) := dk_61 (dk_at dksX3_image_1 10 rfl rfl)
theorem dX3_image_35 : decode cX3_image 35 = .ok (.iload_n 2, 1) := dk_28 (dk_at dksX3_image_1 11 rfl rfl)
theorem dX3_image_36 : decode cX3_image 36 = .ok (.sipush 348, 3) := dk_17 1 92 (dk_at dksX3_image_1 12 rfl rfl)
theorem dX3_image_39 : decode cX3_image 39 = .ok (.if_icmp .ge 25, 3) := dk_162 0 25 (dk_at dksX3_image_1 15 rfl rfl)
theorem dX3_image_42 : decode cX3_image 42 = .ok (.aload_n 0, 1) := dk_42 (dk_at dksX3_image_1 18 rfl rfl)
theorem dX3_image_43 : decode cX3_image 43 = .ok (.getfield 7, 3) := dk_180 0 7 (dk_at dksX3_image_1 19 rfl rfl)
theorem dX3_image_46 : decode cX3_image 46 = .ok (.iload_n 2, 1) := dk_28 (dk_at dksX3_image_1 22 rfl rfl)
theorem dX3_image_47 : decode cX3_image 47 = .ok (.aload_n 0, 1) := dk_42 (dk_at dksX3_image_1 23 rfl rfl)
theorem dX3_image_48 : decode cX3_image 48 = .ok (.aload_n 0, 1) := dk_42 (dk_at dksX3_image_2 0 rfl rfl)
theorem dX3_image_49 : decode cX3_image 49 = .ok (.getfield 7, 3) := dk_180 0 7 (dk_at dksX3_image_2 1 rfl rfl)
theorem dX3_image_52 : decode cX3_image 52 = .ok (.iload_n 2, 1) := dk_28 (dk_at dksX3_image_2 4 rfl rfl)
theorem dX3_image_53 : decode cX3_image 53 = .ok (.iaload, 1) := dk_46 (dk_at dksX3_image_2 5 rfl rfl)
theorem dX3_image_54 : decode cX3_image 54 = .ok (.invokevirtual 326, 3) := dk_182 1 70 (dk_at dksX3_image_2 6 rfl rfl)
theorem dX3_image_57 : decode cX3_image 57 = .ok (.iastore, 1) := dk_79 (dk_at dksX3_image_2 9 rfl rfl)
theorem dX3_image_58 : decode cX3_image 58 = .ok (.iinc 2 1, 3) := dk_132 2 1 (dk_at dksX3_image_2 10 rfl rfl)
theorem dX3_image_61 : decode cX3_image 61 = .ok (.goto (-26), 3) := dk_167 255 230 (dk_at dksX3_image_2 13 rfl rfl)
theorem dX3_image_64 : decode cX3_image 64 = .ok (.iconst 0, 1) := dk_3 (dk_at dksX3_image_2 16 rfl rfl)
theorem dX3_image_65 : decode cX3_image 65 = .ok (.istore_n 2, 1) := dk_61 (dk_at dksX3_image_2 17 rfl rfl)
theorem dX3_image_66 : decode cX3_image 66 = .ok (.iload_n 2, 1) := dk_28 (dk_at dksX3_image_2 18 rfl rfl)
theorem dX3_image_67 : decode cX3_image 67 = .ok (.bipush 64, 2) := dk_16 64 (dk_at dksX3_image_2 19 rfl rfl)
theorem dX3_image_69 : decode cX3_image 69 = .ok (.if_icmp .ge 25, 3) := dk_162 0 25 (dk_at dksX3_image_2 21 rfl rfl)
theorem dX3_image_72 : decode cX3_image 72 = .ok (.aload_n 0, 1) := dk_42 (dk_at dksX3_image_3 0 rfl rfl)
theorem dX3_image_73 : decode cX3_image 73 = .ok (.getfield 23, 3) := dk_180 0 23 (dk_at dksX3_image_3 1 rfl rfl)
theorem dX3_image_76 : decode cX3_image 76 = .ok (.iload_n 2, 1) := dk_28 (dk_at dksX3_image_3 4 rfl rfl)
theorem dX3_image_77 : decode cX3_image 77 = .ok (.aload_n 0, 1) := dk_42 (dk_at dksX3_image_3 5 rfl rfl)
theorem dX3_image_78 : decode cX3_image 78 = .ok (.aload_n 0, 1) := dk_42 (dk_at dksX3_image_3 6 rfl rfl)
theorem dX3_image_79 : decode cX3_image 79 = .ok (.getfield 23, 3) := dk_180 0 23 (dk_at dksX3_image_3 7 rfl rfl)
theorem dX3_image_82 : decode cX3_image 82 = .ok (.iload_n 2, 1) := dk_28 (dk_at dksX3_image_3 10 rfl rfl)
theorem dX3_image_83 : decode cX3_image 83 = .ok (.iaload, 1) := dk_46 (dk_at dksX3_image_3 11 rfl rfl)
theorem dX3_image_84 : decode cX3_image 84 = .ok (.invokevirtual 326, 3) := dk_182 1 70 (dk_at dksX3_image_3 12 rfl rfl)
theorem dX3_image_87 : decode cX3_image 87 = .ok (.iastore, 1) := dk_79 (dk_at dksX3_image_3 15 rfl rfl)
theorem dX3_image_88 : decode cX3_image 88 = .ok (.iinc 2 1, 3) := dk_132 2 1 (dk_at dksX3_image_3 16 rfl rfl)
theorem dX3_image_91 : decode cX3_image 91 = .ok (.goto (-25), 3) := dk_167 255 231 (dk_at dksX3_image_3 19 rfl rfl)
theorem dX3_image_94 : decode cX3_image 94 = .ok (.iconst 0, 1) := dk_3 (dk_at dksX3_image_3 22 rfl rfl)
theorem dX3_image_95 : decode cX3_image 95 = .ok (.istore_n 2, 1) := dk_61 (dk_at dksX3_image_3 23 rfl rfl)
theorem dX3_image_96 : decode cX3_image 96 = .ok (.iload_n 2, 1) := dk_28 (dk_at dksX3_image_4 0 rfl rfl)
theorem dX3_image_97 : decode cX3_image 97 = .ok (.sipush 400, 3) := dk_17 1 144 (dk_at dksX3_image_4 1 rfl rfl)
theorem dX3_image_100 : decode cX3_image 100 = .ok (.if_icmp .ge 25, 3) := dk_162 0 25 (dk_at dksX3_image_4 4 rfl rfl)
theorem dX3_image_103 : decode cX3_image 103 = .ok (.aload_n 0, 1) := dk_42 (dk_at dksX3_image_4 7 rfl rfl)
theorem dX3_image_104 : decode cX3_image 104 = .ok (.getfield 35, 3) := dk_180 0 35 (dk_at dksX3_image_4 8 rfl rfl)
theorem dX3_image_107 : decode cX3_image 107 = .ok (.iload_n 2, 1) := dk_28 (dk_at dksX3_image_4 11 rfl rfl)
theorem dX3_image_108 : decode cX3_image 108 = .ok (.aload_n 0, 1) := dk_42 (dk_at dksX3_image_4 12 rfl rfl)
theorem dX3_image_109 : decode cX3_image 109 = .ok (.aload_n 0, 1) := dk_42 (dk_at dksX3_image_4 13 rfl rfl)
theorem dX3_image_110 : decode cX3_image 110 = .ok (.getfield 35, 3) := dk_180 0 35 (dk_at dksX3_image_4 14 rfl rfl)
theorem dX3_image_113 : decode cX3_image 113 = .ok (.iload_n 2, 1) := dk_28 (dk_at dksX3_image_4 17 rfl rfl)
theorem dX3_image_114 : decode cX3_image 114 = .ok (.iaload, 1) := dk_46 (dk_at dksX3_image_4 18 rfl rfl)
theorem dX3_image_115 : decode cX3_image 115 = .ok (.invokevirtual 326, 3) := dk_182 1 70 (dk_at dksX3_image_4 19 rfl rfl)
theorem dX3_image_118 : decode cX3_image 118 = .ok (.iastore, 1) := dk_79 (dk_at dksX3_image_4 22 rfl rfl)
theorem dX3_image_119 : decode cX3_image 119 = .ok (.iinc 2 1, 3) := dk_132 2 1 (dk_at dksX3_image_5 0 rfl rfl)
theorem dX3_image_122 : decode cX3_image 122 = .ok (.goto (-26), 3) := dk_167 255 230 (dk_at dksX3_image_5 3 rfl rfl)
theorem dX3_image_125 : decode cX3_image 125 = .ok (.iconst 0, 1) := dk_3 (dk_at dksX3_image_5 6 rfl rfl)
theorem dX3_image_126 : decode cX3_image 126 = .ok (.istore_n 2, 1) := dk_61 (dk_at dksX3_image_5 7 rfl rfl)
theorem dX3_image_127 : decode cX3_image 127 = .ok (.iload_n 2, 1) := dk_28 (dk_at dksX3_image_5 8 rfl rfl)
theorem dX3_image_128 : decode cX3_image 128 = .ok (.bipush 12, 2) := dk_16 12 (dk_at dksX3_image_5 9 rfl rfl)
theorem dX3_image_130 : decode cX3_image 130 = .ok (.if_icmp .ge 57, 3) := dk_162 0 57 (dk_at dksX3_image_5 11 rfl rfl)
theorem dX3_image_133 : decode cX3_image 133 = .ok (.aload_n 0, 1) := dk_42 (dk_at dksX3_image_5 14 rfl rfl)
theorem dX3_image_134 : decode cX3_image 134 = .ok (.getfield 26, 3) := dk_180 0 26 (dk_at dksX3_image_5 15 rfl rfl)
theorem dX3_image_137 : decode cX3_image 137 = .ok (.iload_n 2, 1) := dk_28 (dk_at dksX3_image_5 18 rfl rfl)
theorem dX3_image_138 : decode cX3_image 138 = .ok (.aload_n 0, 1) := dk_42 (dk_at dksX3_image_5 19 rfl rfl)
theorem dX3_image_139 : decode cX3_image 139 = .ok (.aload_n 0, 1) := dk_42 (dk_at dksX3_image_5 20 rfl rfl)
theorem dX3_image_140 : decode cX3_image 140 = .ok (.getfield 26, 3) := dk_180 0 26 (dk_at dksX3_image_5 21 rfl rfl)
theorem dX3_image_143 : decode cX3_image 143 = .ok (.iload_n 2, 1) := dk_28 (dk_at dksX3_image_6 0 rfl rfl)
theorem dX3_image_144 : decode cX3_image 144 = .ok (.iaload, 1) := dk_46 (dk_at dksX3_image_6 1 rfl rfl)
theorem dX3_image_145 : decode cX3_image 145 = .ok (.invokevirtual 326, 3) := dk_182 1 70 (dk_at dksX3_image_6 2 rfl rfl)
theorem dX3_image_148 : decode cX3_image 148 = .ok (.iastore, 1) := dk_79 (dk_at dksX3_image_6 5 rfl rfl)
theorem dX3_image_149 : decode cX3_image 149 = .ok (.aload_n 0, 1) := dk_42 (dk_at dksX3_image_6 6 rfl rfl)
theorem dX3_image_150 : decode cX3_image 150 = .ok (.getfield 29, 3) := dk_180 0 29 (dk_at dksX3_image_6 7 rfl rfl)
theorem dX3_image_153 : decode cX3_image 153 = .ok (.iload_n 2, 1) := dk_28 (dk_at dksX3_image_6 10 rfl rfl)
theorem dX3_image_154 : decode cX3_image 154 = .ok (.aload_n 0, 1) := dk_42 (dk_at dksX3_image_6 11 rfl rfl)
theorem dX3_image_155 : decode cX3_image 155 = .ok (.aload_n 0, 1) := dk_42 (dk_at dksX3_image_6 12 rfl rfl)
theorem dX3_image_156 : decode cX3_image 156 = .ok (.getfield 29, 3) := dk_180 0 29 (dk_at dksX3_image_6 13 rfl rfl)
theorem dX3_image_159 : decode cX3_image 159 = .ok (.iload_n 2, 1) := dk_28 (dk_at dksX3_image_6 16 rfl rfl)
theorem dX3_image_160 : decode cX3_image 160 = .ok (.iaload, 1) := dk_46 (dk_at dksX3_image_6 17 rfl rfl)
theorem dX3_image_161 : decode cX3_image 161 = .ok (.invokevirtual 326, 3) := dk_182 1 70 (dk_at dksX3_image_6 18 rfl rfl)
theorem dX3_image_164 : decode cX3_image 164 = .ok (.iastore, 1) := dk_79 (dk_at dksX3_image_6 21 rfl rfl)
theorem dX3_image_165 : decode cX3_image 165 = .ok (.aload_n 0, 1) := dk_42 (dk_at dksX3_image_6 22 rfl rfl)
theorem dX3_image_166 : decode cX3_image 166 = .ok (.getfield 32, 3) := dk_180 0 32 (dk_at dksX3_image_7 0 rfl rfl)
theorem dX3_image_169 : decode cX3_image 169 = .ok (.iload_n 2, 1) := dk_28 (dk_at dksX3_image_7 3 rfl rfl)
theorem dX3_image_170 : decode cX3_image 170 = .ok (.aload_n 0, 1) := dk_42 (dk_at dksX3_image_7 4 rfl rfl)
theorem dX3_image_171 : decode cX3_image 171 = .ok (.aload_n 0, 1) := dk_42 (dk_at dksX3_image_7 5 rfl rfl)
theorem dX3_image_172 : decode cX3_image 172 = .ok (.getfield 32, 3) := dk_180 0 32 (dk_at dksX3_image_7 6 rfl rfl)
theorem dX3_image_175 : decode cX3_image 175 = .ok (.iload_n 2, 1) := dk_28 (dk_at dksX3_image_7 9 rfl rfl)
theorem dX3_image_176 : decode cX3_image 176 = .ok (.iaload, 1) := dk_46 (dk_at dksX3_image_7 10 rfl rfl)
theorem dX3_image_177 : decode cX3_image 177 = .ok (.invokevirtual 326, 3) := dk_182 1 70 (dk_at dksX3_image_7 11 rfl rfl)
theorem dX3_image_180 : decode cX3_image 180 = .ok (.iastore, 1) := dk_79 (dk_at dksX3_image_7 14 rfl rfl)
theorem dX3_image_181 : decode cX3_image 181 = .ok (.iinc 2 1, 3) := dk_132 2 1 (dk_at dksX3_image_7 15 rfl rfl)
theorem dX3_image_184 : decode cX3_image 184 = .ok (.goto (-57), 3) := dk_167 255 199 (dk_at dksX3_image_7 18 rfl rfl)
theorem dX3_image_187 : decode cX3_image 187 = .ok (.aload_n 0, 1) := dk_42 (dk_at dksX3_image_7 21 rfl rfl)
theorem dX3_image_188 : decode cX3_image 188 = .ok (.aload_n 0, 1) := dk_42 (dk_at dksX3_image_7 22 rfl rfl)
theorem dX3_image_189 : decode cX3_image 189 = .ok (.aload_n 0, 1) := dk_42 (dk_at dksX3_image_7 23 rfl rfl)
theorem dX3_image_190 : decode cX3_image 190 = .ok (.getfield 92, 3) := dk_180 0 92 (dk_at dksX3_image_8 0 rfl rfl)
theorem dX3_image_193 : decode cX3_image 193 = .ok (.invokevirtual 326, 3) := dk_182 1 70 (dk_at dksX3_image_8 3 rfl rfl)
theorem dX3_image_196 : decode cX3_image 196 = .ok (.putfield 92, 3) := dk_181 0 92 (dk_at dksX3_image_8 6 rfl rfl)
theorem dX3_image_199 : decode cX3_image 199 = .ok (.aload_n 0, 1) := dk_42 (dk_at dksX3_image_8 9 rfl rfl)
theorem dX3_image_200 : decode cX3_image 200 = .ok (.aload_n 0, 1) := dk_42 (dk_at dksX3_image_8 10 rfl rfl)
theorem dX3_image_201 : decode cX3_image 201 = .ok (.aload_n 0, 1) := dk_42 (dk_at dksX3_image_8 11 rfl rfl)
theorem dX3_image_202 : decode cX3_image 202 = .ok (.getfield 16, 3) := dk_180 0 16 (dk_at dksX3_image_8 12 rfl rfl)
theorem dX3_image_205 : decode cX3_image 205 = .ok (.invokevirtual 326, 3) := dk_182 1 70 (dk_at dksX3_image_8 15 rfl rfl)
theorem dX3_image_208 : decode cX3_image 208 = .ok (.putfield 16, 3) := dk_181 0 16 (dk_at dksX3_image_8 18 rfl rfl)
theorem dX3_image_211 : decode cX3_image 211 = .ok (.aload_n 0, 1) := dk_42 (dk_at dksX3_image_8 21 rfl rfl)
theorem dX3_image_212 : decode cX3_image 212 = .ok (.aload_n 0, 1) := dk_42 (dk_at dksX3_image_8 22 rfl rfl)
theorem dX3_image_213 : decode cX3_image 213 = .ok (.aload_n 0, 1) := dk_42 (dk_at dksX3_image_8 23 rfl rfl)
theorem dX3_image_214 : decode cX3_image 214 = .ok (.getfield 20, 3) := dk_180 0 20 (dk_at dksX3_image_9 0 rfl rfl)
theorem dX3_image_217 : decode cX3_image 217 = .ok (.invokevirtual 326, 3) := dk_182 1 70 (dk_at dksX3_image_9 3 rfl rfl)
theorem dX3_image_220 : decode cX3_image 220 = .ok (.putfield 20, 3) := dk_181 0 20 (dk_at dksX3_image_9 6 rfl rfl)
theorem dX3_image_223 : decode cX3_image 223 = .ok (.aload_n 0, 1) := dk_42 (dk_at dksX3_image_9 9 rfl rfl)
theorem dX3_image_224 : decode cX3_image 224 = .ok (.aload_n 0, 1) := dk_42 (dk_at dksX3_image_9 10 rfl rfl)
theorem dX3_image_225 : decode cX3_image 225 = .ok (.aload_n 0, 1) := dk_42 (dk_at dksX3_image_9 11 rfl rfl)
theorem dX3_image_226 : decode cX3_image 226 = .ok (.getfield 97, 3) := dk_180 0 97 (dk_at dksX3_image_9 12 rfl rfl)
theorem dX3_image_229 : decode cX3_image 229 = .ok (.invokevirtual 326, 3) := dk_182 1 70 (dk_at dksX3_image_9 15 rfl rfl)
theorem dX3_image_232 : decode cX3_image 232 = .ok (.putfield 97, 3) := dk_181 0 97 (dk_at dksX3_image_9 18 rfl rfl)
theorem dX3_image_235 : decode cX3_image 235 = .ok (.aload_n 0, 1) := dk_42 (dk_at dksX3_image_9 21 rfl rfl)
theorem dX3_image_236 : decode cX3_image 236 = .ok (.aload_n 0, 1) := dk_42 (dk_at dksX3_image_9 22 rfl rfl)
theorem dX3_image_237 : decode cX3_image 237 = .ok (.aload_n 0, 1) := dk_42 (dk_at dksX3_image_9 23 rfl rfl)
theorem dX3_image_238 : decode cX3_image 238 = .ok (.getfield 100, 3) := dk_180 0 100 (dk_at dksX3_image_10 0 rfl rfl)
theorem dX3_image_241 : decode cX3_image 241 = .ok (.invokevirtual 326, 3) := dk_182 1 70 (dk_at dksX3_image_10 3 rfl rfl)
theorem dX3_image_244 : decode cX3_image 244 = .ok (.putfield 100, 3) := dk_181 0 100 (dk_at dksX3_image_10 6 rfl rfl)
theorem dX3_image_247 : decode cX3_image 247 = .ok (.aload_n 0, 1) := dk_42 (dk_at dksX3_image_10 9 rfl rfl)
theorem dX3_image_248 : decode cX3_image 248 = .ok (.aload_n 0, 1) := dk_42 (dk_at dksX3_image_10 10 rfl rfl)
theorem dX3_image_249 : decode cX3_image 249 = .ok (.aload_n 0, 1) := dk_42 (dk_at dksX3_image_10 11 rfl rfl)
theorem dX3_image_250 : decode cX3_image 250 = .ok (.getfield 111, 3) := dk_180 0 111 (dk_at dksX3_image_10 12 rfl rfl)
theorem dX3_image_253 : decode cX3_image 253 = .ok (.invokevirtual 326, 3) := dk_182 1 70 (dk_at dksX3_image_10 15 rfl rfl)
theorem dX3_image_256 : decode cX3_image 256 = .ok (.putfield 111, 3) := dk_181 0 111 (dk_at dksX3_image_10 18 rfl rfl)
theorem dX3_image_259 : decode cX3_image 259 = .ok (.aload_n 0, 1) := dk_42 (dk_at dksX3_image_10 21 rfl rfl)
theorem dX3_image_260 : decode cX3_image 260 = .ok (.aload_n 0, 1) := dk_42 (dk_at dksX3_image_10 22 rfl rfl)
theorem dX3_image_261 : decode cX3_image 261 = .ok (.aload_n 0, 1) := dk_42 (dk_at dksX3_image_10 23 rfl rfl)
theorem dX3_image_262 : decode cX3_image 262 = .ok (.getfield 114, 3) := dk_180 0 114 (dk_at dksX3_image_11 0 rfl rfl)
theorem dX3_image_265 : decode cX3_image 265 = .ok (.invokevirtual 326, 3) := dk_182 1 70 (dk_at dksX3_image_11 3 rfl rfl)
theorem dX3_image_268 : decode cX3_image 268 = .ok (.putfield 114, 3) := dk_181 0 114 (dk_at dksX3_image_11 6 rfl rfl)
theorem dX3_image_271 : decode cX3_image 271 = .ok (.aload_n 0, 1) := dk_42 (dk_at dksX3_image_11 9 rfl rfl)
theorem dX3_image_272 : decode cX3_image 272 = .ok (.aload_n 0, 1) := dk_42 (dk_at dksX3_image_11 10 rfl rfl)
theorem dX3_image_273 : decode cX3_image 273 = .ok (.aload_n 0, 1) := dk_42 (dk_at dksX3_image_11 11 rfl rfl)
theorem dX3_image_274 : decode cX3_image 274 = .ok (.getfield 117, 3) := dk_180 0 117 (dk_at dksX3_image_11 12 rfl rfl)
theorem dX3_image_277 : decode cX3_image 277 = .ok (.invokevirtual 326, 3) := dk_182 1 70 (dk_at dksX3_image_11 15 rfl rfl)
theorem dX3_image_280 : decode cX3_image 280 = .ok (.putfield 117, 3) := dk_181 0 117 (dk_at dksX3_image_11 18 rfl rfl)
theorem dX3_image_283 : decode cX3_image 283 = .ok (.aload_n 0, 1) := dk_42 (dk_at dksX3_image_11 21 rfl rfl)
theorem dX3_image_284 : decode cX3_image 284 = .ok (.aload_n 0, 1) := dk_42 (dk_at dksX3_image_11 22 rfl rfl)
theorem dX3_image_285 : decode cX3_image 285 = .ok (.aload_n 0, 1) := dk_42 (dk_at dksX3_image_11 23 rfl rfl)
theorem dX3_image_286 : decode cX3_image 286 = .ok (.getfield 120, 3) := dk_180 0 120 (dk_at dksX3_image_12 0 rfl rfl)
theorem dX3_image_289 : decode cX3_image 289 = .ok (.invokevirtual 326, 3) := dk_182 1 70 (dk_at dksX3_image_12 3 rfl rfl)
theorem dX3_image_292 : decode cX3_image 292 = .ok (.putfield 120, 3) := dk_181 0 120 (dk_at dksX3_image_12 6 rfl rfl)
theorem dX3_image_295 : decode cX3_image 295 = .ok (.aload_n 0, 1) := dk_42 (dk_at dksX3_image_12 9 rfl rfl)
theorem dX3_image_296 : decode cX3_image 296 = .ok (.aload_n 0, 1) := dk_42 (dk_at dksX3_image_12 10 rfl rfl)
theorem dX3_image_297 : decode cX3_image 297 = .ok (.aload_n 0, 1) := dk_42 (dk_at dksX3_image_12 11 rfl rfl)
theorem dX3_image_298 : decode cX3_image 298 = .ok (.getfield 123, 3) := dk_180 0 123 (dk_at dksX3_image_12 12 rfl rfl)
theorem dX3_image_301 : decode cX3_image 301 = .ok (.invokevirtual 326, 3) := dk_182 1 70 (dk_at dksX3_image_12 15 rfl rfl)
theorem dX3_image_304 : decode cX3_image 304 = .ok (.putfield 123, 3) := dk_181 0 123 (dk_at dksX3_image_12 18 rfl rfl)
theorem dX3_image_307 : decode cX3_image 307 = .ok (.aload_n 0, 1) := dk_42 (dk_at dksX3_image_12 21 rfl rfl)
theorem dX3_image_308 : decode cX3_image 308 = .ok (.invokevirtual 332, 3) := dk_182 1 76 (dk_at dksX3_image_13 0 rfl rfl)
theorem dX3_image_311 : decode cX3_image 311 = .ok (.iload_n 1, 1) := dk_27 (dk_at dksX3_image_13 3 rfl rfl)
theorem dX3_image_312 : decode cX3_image 312 = .ok (.ifCond .ne 8, 3) := dk_154 0 8 (dk_at dksX3_image_13 4 rfl rfl)
theorem dX3_image_315 : decode cX3_image 315 = .ok (.aload_n 0, 1) := dk_42 (dk_at dksX3_image_13 7 rfl rfl)
theorem dX3_image_316 : decode cX3_image 316 = .ok (.iconst 0, 1) := dk_3 (dk_at dksX3_image_13 8 rfl rfl)
theorem dX3_image_317 : decode cX3_image 317 = .ok (.putfield 89, 3) := dk_181 0 89 (dk_at dksX3_image_13 9 rfl rfl)
theorem dX3_image_320 : decode cX3_image 320 = .ok (.iconst 1, 1) := dk_4 (dk_at dksX3_image_13 12 rfl rfl)
theorem dX3_image_321 : decode cX3_image 321 = .ok (.ireturn, 1) := dk_172 (dk_at dksX3_image_13 13 rfl rfl)
abbrev cX3_kept : ByteArray := prog_14_method_81_code
def yX3_kept : MethodName := ⟨RX3, "kept", "(I)I"⟩
def dkwX3_kept_1 : List UInt8 := [180, 1, 63, 4, 100, 46, 172, 42, 180, 0, 83, 42, 180, 1, 63, 4, 100, 27, 79, 27, 172]
abbrev dktX3_kept_1 : List UInt8 := dkwX3_kept_1 ++ []
def dkwX3_kept_0 : List UInt8 := [42, 42, 180, 1, 63, 4, 96, 181, 1, 63, 42, 180, 1, 66, 154, 0, 15, 42, 180, 0, 83, 42]
abbrev dktX3_kept_0 : List UInt8 := dkwX3_kept_0 ++ dktX3_kept_1
theorem dksX3_kept_0 : cX3_kept.data.toList.drop 0 = dktX3_kept_0 := by decide +kernel
theorem dksX3_kept_1 : cX3_kept.data.toList.drop 22 = dktX3_kept_1 := dk_seg dksX3_kept_0 22 rfl rfl
theorem dX3_kept_0 : decode cX3_kept 0 = .ok (.aload_n 0, 1) := dk_42 (dk_at dksX3_kept_0 0 rfl rfl)
theorem dX3_kept_1 : decode cX3_kept 1 = .ok (.aload_n 0, 1) := dk_42 (dk_at dksX3_kept_0 1 rfl rfl)
theorem dX3_kept_2 : decode cX3_kept 2 = .ok (.getfield 319, 3) := dk_180 1 63 (dk_at dksX3_kept_0 2 rfl rfl)
theorem dX3_kept_5 : decode cX3_kept 5 = .ok (.iconst 1, 1) := dk_4 (dk_at dksX3_kept_0 5 rfl rfl)
theorem dX3_kept_6 : decode cX3_kept 6 = .ok (.iadd, 1) := dk_96 (dk_at dksX3_kept_0 6 rfl rfl)
theorem dX3_kept_7 : decode cX3_kept 7 = .ok (.putfield 319, 3) := dk_181 1 63 (dk_at dksX3_kept_0 7 rfl rfl)
theorem dX3_kept_10 : decode cX3_kept 10 = .ok (.aload_n 0, 1) := dk_42 (dk_at dksX3_kept_0 10 rfl rfl)
theorem dX3_kept_11 : decode cX3_kept 11 = .ok (.getfield 322, 3) := dk_180 1 66 (dk_at dksX3_kept_0 11 rfl rfl)
theorem dX3_kept_14 : decode cX3_kept 14 = .ok (.ifCond .ne 15, 3) := dk_154 0 15 (dk_at dksX3_kept_0 14 rfl rfl)
theorem dX3_kept_17 : decode cX3_kept 17 = .ok (.aload_n 0, 1) := dk_42 (dk_at dksX3_kept_0 17 rfl rfl)
theorem dX3_kept_18 : decode cX3_kept 18 = .ok (.getfield 83, 3) := dk_180 0 83 (dk_at dksX3_kept_0 18 rfl rfl)
theorem dX3_kept_21 : decode cX3_kept 21 = .ok (.aload_n 0, 1) := dk_42 (dk_at dksX3_kept_0 21 rfl rfl)
theorem dX3_kept_22 : decode cX3_kept 22 = .ok (.getfield 319, 3) := dk_180 1 63 (dk_at dksX3_kept_1 0 rfl rfl)
theorem dX3_kept_25 : decode cX3_kept 25 = .ok (.iconst 1, 1) := dk_4 (dk_at dksX3_kept_1 3 rfl rfl)
theorem dX3_kept_26 : decode cX3_kept 26 = .ok (.isub, 1) := dk_100 (dk_at dksX3_kept_1 4 rfl rfl)
theorem dX3_kept_27 : decode cX3_kept 27 = .ok (.iaload, 1) := dk_46 (dk_at dksX3_kept_1 5 rfl rfl)
theorem dX3_kept_28 : decode cX3_kept 28 = .ok (.ireturn, 1) := dk_172 (dk_at dksX3_kept_1 6 rfl rfl)
theorem dX3_kept_29 : decode cX3_kept 29 = .ok (.aload_n 0, 1) := dk_42 (dk_at dksX3_kept_1 7 rfl rfl)
theorem dX3_kept_30 : decode cX3_kept 30 = .ok (.getfield 83, 3) := dk_180 0 83 (dk_at dksX3_kept_1 8 rfl rfl)
theorem dX3_kept_33 : decode cX3_kept 33 = .ok (.aload_n 0, 1) := dk_42 (dk_at dksX3_kept_1 11 rfl rfl)
theorem dX3_kept_34 : decode cX3_kept 34 = .ok (.getfield 319, 3) := dk_180 1 63 (dk_at dksX3_kept_1 12 rfl rfl)
theorem dX3_kept_37 : decode cX3_kept 37 = .ok (.iconst 1, 1) := dk_4 (dk_at dksX3_kept_1 15 rfl rfl)
theorem dX3_kept_38 : decode cX3_kept 38 = .ok (.isub, 1) := dk_100 (dk_at dksX3_kept_1 16 rfl rfl)
theorem dX3_kept_39 : decode cX3_kept 39 = .ok (.iload_n 1, 1) := dk_27 (dk_at dksX3_kept_1 17 rfl rfl)
theorem dX3_kept_40 : decode cX3_kept 40 = .ok (.iastore, 1) := dk_79 (dk_at dksX3_kept_1 18 rfl rfl)
theorem dX3_kept_41 : decode cX3_kept 41 = .ok (.iload_n 1, 1) := dk_27 (dk_at dksX3_kept_1 19 rfl rfl)
theorem dX3_kept_42 : decode cX3_kept 42 = .ok (.ireturn, 1) := dk_172 (dk_at dksX3_kept_1 20 rfl rfl)
abbrev cX3_keepsLaw : ByteArray := prog_14_method_82_code
def yX3_keepsLaw : MethodName := ⟨RX3, "keepsLaw", "()V"⟩
def dkwX3_keepsLaw_5 : List UInt8 := [167, 255, 214, 177]
abbrev dktX3_keepsLaw_5 : List UInt8 := dkwX3_keepsLaw_5 ++ []
def dkwX3_keepsLaw_4 : List UInt8 := [182, 1, 70, 79, 42, 180, 0, 56, 27, 42, 42, 180, 0, 56, 27, 46, 182, 1, 70, 79, 132, 1, 1]
abbrev dktX3_keepsLaw_4 : List UInt8 := dkwX3_keepsLaw_4 ++ dktX3_keepsLaw_5
def dkwX3_keepsLaw_3 : List UInt8 := [167, 255, 199, 3, 60, 27, 17, 1, 144, 162, 0, 41, 42, 180, 0, 53, 27, 42, 42, 180, 0, 53, 27, 46]
abbrev dktX3_keepsLaw_3 : List UInt8 := dkwX3_keepsLaw_3 ++ dktX3_keepsLaw_4
def dkwX3_keepsLaw_2 : List UInt8 := [182, 1, 70, 79, 42, 180, 0, 50, 27, 42, 42, 180, 0, 50, 27, 46, 182, 1, 70, 79, 132, 1, 1]
abbrev dktX3_keepsLaw_2 : List UInt8 := dkwX3_keepsLaw_2 ++ dktX3_keepsLaw_3
def dkwX3_keepsLaw_1 : List UInt8 := [27, 42, 42, 180, 0, 44, 27, 46, 182, 1, 70, 79, 42, 180, 0, 47, 27, 42, 42, 180, 0, 47, 27, 46]
abbrev dktX3_keepsLaw_1 : List UInt8 := dkwX3_keepsLaw_1 ++ dktX3_keepsLaw_2
def dkwX3_keepsLaw_0 : List UInt8 := [42, 42, 42, 180, 0, 126, 182, 1, 70, 181, 0, 126, 3, 60, 27, 16, 16, 162, 0, 57, 42, 180, 0, 44]
abbrev dktX3_keepsLaw_0 : List UInt8 := dkwX3_keepsLaw_0 ++ dktX3_keepsLaw_1
theorem dksX3_keepsLaw_0 : cX3_keepsLaw.data.toList.drop 0 = dktX3_keepsLaw_0 := by decide +kernel
theorem dksX3_keepsLaw_1 : cX3_keepsLaw.data.toList.drop 24 = dktX3_keepsLaw_1 := dk_seg dksX3_keepsLaw_0 24 rfl rfl
theorem dksX3_keepsLaw_2 : cX3_keepsLaw.data.toList.drop 48 = dktX3_keepsLaw_2 := dk_seg dksX3_keepsLaw_1 24 rfl rfl
theorem dksX3_keepsLaw_3 : cX3_keepsLaw.data.toList.drop 71 = dktX3_keepsLaw_3 := dk_seg dksX3_keepsLaw_2 23 rfl rfl
theorem dksX3_keepsLaw_4 : cX3_keepsLaw.data.toList.drop 95 = dktX3_keepsLaw_4 := dk_seg dksX3_keepsLaw_3 24 rfl rfl
theorem dksX3_keepsLaw_5 : cX3_keepsLaw.data.toList.drop 118 = dktX3_keepsLaw_5 := dk_seg dksX3_keepsLaw_4 23 rfl rfl
theorem dX3_keepsLaw_0 : decode cX3_keepsLaw 0 = .ok (.aload_n 0, 1) := dk_42 (dk_at dksX3_keepsLaw_0 0 rfl rfl)
theorem dX3_keepsLaw_1 : decode cX3_keepsLaw 1 = .ok (.aload_n 0, 1) := dk_42 (dk_at dksX3_keepsLaw_0 1 rfl rfl)
theorem dX3_keepsLaw_2 : decode cX3_keepsLaw 2 = .ok (.aload_n 0, 1) := dk_42 (dk_at dksX3_keepsLaw_0 2 rfl rfl)
theorem dX3_keepsLaw_3 : decode cX3_keepsLaw 3 = .ok (.getfield 126, 3) := dk_180 0 126 (dk_at dksX3_keepsLaw_0 3 rfl rfl)
theorem dX3_keepsLaw_6 : decode cX3_keepsLaw 6 = .ok (.invokevirtual 326, 3) := dk_182 1 70 (dk_at dksX3_keepsLaw_0 6 rfl rfl)
theorem dX3_keepsLaw_9 : decode cX3_keepsLaw 9 = .ok (.putfield 126, 3) := dk_181 0 126 (dk_at dksX3_keepsLaw_0 9 rfl rfl)
theorem dX3_keepsLaw_12 : decode cX3_keepsLaw 12 = .ok (.iconst 0, 1) := dk_3 (dk_at dksX3_keepsLaw_0 12 rfl rfl)
theorem dX3_keepsLaw_13 : decode cX3_keepsLaw 13 = .ok (.istore_n 1, 1) := dk_60 (dk_at dksX3_keepsLaw_0 13 rfl rfl)
theorem dX3_keepsLaw_14 : decode cX3_keepsLaw 14 = .ok (.iload_n 1, 1) := dk_27 (dk_at dksX3_keepsLaw_0 14 rfl rfl)
theorem dX3_keepsLaw_15 : decode cX3_keepsLaw 15 = .ok (.bipush 16, 2) := dk_16 16 (dk_at dksX3_keepsLaw_0 15 rfl rfl)
theorem dX3_keepsLaw_17 : decode cX3_keepsLaw 17 = .ok (.if_icmp .ge 57, 3) := dk_162 0 57 (dk_at dksX3_keepsLaw_0 17 rfl rfl)
theorem dX3_keepsLaw_20 : decode cX3_keepsLaw 20 = .ok (.aload_n 0, 1) := dk_42 (dk_at dksX3_keepsLaw_0 20 rfl rfl)
theorem dX3_keepsLaw_21 : decode cX3_keepsLaw 21 = .ok (.getfield 44, 3) := dk_180 0 44 (dk_at dksX3_keepsLaw_0 21 rfl rfl)
theorem dX3_keepsLaw_24 : decode cX3_keepsLaw 24 = .ok (.iload_n 1, 1) := dk_27 (dk_at dksX3_keepsLaw_1 0 rfl rfl)
theorem dX3_keepsLaw_25 : decode cX3_keepsLaw 25 = .ok (.aload_n 0, 1) := dk_42 (dk_at dksX3_keepsLaw_1 1 rfl rfl)
theorem dX3_keepsLaw_26 : decode cX3_keepsLaw 26 = .ok (.aload_n 0, 1) := dk_42 (dk_at dksX3_keepsLaw_1 2 rfl rfl)
theorem dX3_keepsLaw_27 : decode cX3_keepsLaw 27 = .ok (.getfield 44, 3) := dk_180 0 44 (dk_at dksX3_keepsLaw_1 3 rfl rfl)
theorem dX3_keepsLaw_30 : decode cX3_keepsLaw 30 = .ok (.iload_n 1, 1) := dk_27 (dk_at dksX3_keepsLaw_1 6 rfl rfl)
theorem dX3_keepsLaw_31 : decode cX3_keepsLaw 31 = .ok (.iaload, 1) := dk_46 (dk_at dksX3_keepsLaw_1 7 rfl rfl)
theorem dX3_keepsLaw_32 : decode cX3_keepsLaw 32 = .ok (.invokevirtual 326, 3) := dk_182 1 70 (dk_at dksX3_keepsLaw_1 8 rfl rfl)
theorem dX3_keepsLaw_35 : decode cX3_keepsLaw 35 = .ok (.iastore, 1) := dk_79 (dk_at dksX3_keepsLaw_1 11 rfl rfl)
theorem dX3_keepsLaw_36 : decode cX3_keepsLaw 36 = .ok (.aload_n 0, 1) := dk_42 (dk_at dksX3_keepsLaw_1 12 rfl rfl)
theorem dX3_keepsLaw_37 : decode cX3_keepsLaw 37 = .ok (.getfield 47, 3) := dk_180 0 47 (dk_at dksX3_keepsLaw_1 13 rfl rfl)
theorem dX3_keepsLaw_40 : decode cX3_keepsLaw 40 = .ok (.iload_n 1, 1) := dk_27 (dk_at dksX3_keepsLaw_1 16 rfl rfl)
theorem dX3_keepsLaw_41 : decode cX3_keepsLaw 41 = .ok (.aload_n 0, 1) := dk_42 (dk_at dksX3_keepsLaw_1 17 rfl rfl)
theorem dX3_keepsLaw_42 : decode cX3_keepsLaw 42 = .ok (.aload_n 0, 1) := dk_42 (dk_at dksX3_keepsLaw_1 18 rfl rfl)
theorem dX3_keepsLaw_43 : decode cX3_keepsLaw 43 = .ok (.getfield 47, 3) := dk_180 0 47 (dk_at dksX3_keepsLaw_1 19 rfl rfl)
theorem dX3_keepsLaw_46 : decode cX3_keepsLaw 46 = .ok (.iload_n 1, 1) := dk_27 (dk_at dksX3_keepsLaw_1 22 rfl rfl)
theorem dX3_keepsLaw_47 : decode cX3_keepsLaw 47 = .ok (.iaload, 1) := dk_46 (dk_at dksX3_keepsLaw_1 23 rfl rfl)
theorem dX3_keepsLaw_48 : decode cX3_keepsLaw 48 = .ok (.invokevirtual 326, 3) := dk_182 1 70 (dk_at dksX3_keepsLaw_2 0 rfl rfl)
theorem dX3_keepsLaw_51 : decode cX3_keepsLaw 51 = .ok (.iastore, 1) := dk_79 (dk_at dksX3_keepsLaw_2 3 rfl rfl)
theorem dX3_keepsLaw_52 : decode cX3_keepsLaw 52 = .ok (.aload_n 0, 1) := dk_42 (dk_at dksX3_keepsLaw_2 4 rfl rfl)
theorem dX3_keepsLaw_53 : decode cX3_keepsLaw 53 = .ok (.getfield 50, 3) := dk_180 0 50 (dk_at dksX3_keepsLaw_2 5 rfl rfl)
theorem dX3_keepsLaw_56 : decode cX3_keepsLaw 56 = .ok (.iload_n 1, 1) := dk_27 (dk_at dksX3_keepsLaw_2 8 rfl rfl)
theorem dX3_keepsLaw_57 : decode cX3_keepsLaw 57 = .ok (.aload_n 0, 1) := dk_42 (dk_at dksX3_keepsLaw_2 9 rfl rfl)
theorem dX3_keepsLaw_58 : decode cX3_keepsLaw 58 = .ok (.aload_n 0, 1) := dk_42 (dk_at dksX3_keepsLaw_2 10 rfl rfl)
theorem dX3_keepsLaw_59 : decode cX3_keepsLaw 59 = .ok (.getfield 50, 3) := dk_180 0 50 (dk_at dksX3_keepsLaw_2 11 rfl rfl)
theorem dX3_keepsLaw_62 : decode cX3_keepsLaw 62 = .ok (.iload_n 1, 1) := dk_27 (dk_at dksX3_keepsLaw_2 14 rfl rfl)
theorem dX3_keepsLaw_63 : decode cX3_keepsLaw 63 = .ok (.iaload, 1) := dk_46 (dk_at dksX3_keepsLaw_2 15 rfl rfl)
theorem dX3_keepsLaw_64 : decode cX3_keepsLaw 64 = .ok (.invokevirtual 326, 3) := dk_182 1 70 (dk_at dksX3_keepsLaw_2 16 rfl rfl)
theorem dX3_keepsLaw_67 : decode cX3_keepsLaw 67 = .ok (.iastore, 1) := dk_79 (dk_at dksX3_keepsLaw_2 19 rfl rfl)
theorem dX3_keepsLaw_68 : decode cX3_keepsLaw 68 = .ok (.iinc 1 1, 3) := dk_132 1 1 (dk_at dksX3_keepsLaw_2 20 rfl rfl)
theorem dX3_keepsLaw_71 : decode cX3_keepsLaw 71 = .ok (.goto (-57), 3) := dk_167 255 199 (dk_at dksX3_keepsLaw_3 0 rfl rfl)
theorem dX3_keepsLaw_74 : decode cX3_keepsLaw 74 = .ok (.iconst 0, 1) := dk_3 (dk_at dksX3_keepsLaw_3 3 rfl rfl)
theorem dX3_keepsLaw_75 : decode cX3_keepsLaw 75 = .ok (.istore_n 1, 1) := dk_60 (dk_at dksX3_keepsLaw_3 4 rfl rfl)
theorem dX3_keepsLaw_76 : decode cX3_keepsLaw 76 = .ok (.iload_n 1, 1) := dk_27 (dk_at dksX3_keepsLaw_3 5 rfl rfl)
theorem dX3_keepsLaw_77 : decode cX3_keepsLaw 77 = .ok (.sipush 400, 3) := dk_17 1 144 (dk_at dksX3_keepsLaw_3 6 rfl rfl)
theorem dX3_keepsLaw_80 : decode cX3_keepsLaw 80 = .ok (.if_icmp .ge 41, 3) := dk_162 0 41 (dk_at dksX3_keepsLaw_3 9 rfl rfl)
theorem dX3_keepsLaw_83 : decode cX3_keepsLaw 83 = .ok (.aload_n 0, 1) := dk_42 (dk_at dksX3_keepsLaw_3 12 rfl rfl)
theorem dX3_keepsLaw_84 : decode cX3_keepsLaw 84 = .ok (.getfield 53, 3) := dk_180 0 53 (dk_at dksX3_keepsLaw_3 13 rfl rfl)
theorem dX3_keepsLaw_87 : decode cX3_keepsLaw 87 = .ok (.iload_n 1, 1) := dk_27 (dk_at dksX3_keepsLaw_3 16 rfl rfl)
theorem dX3_keepsLaw_88 : decode cX3_keepsLaw 88 = .ok (.aload_n 0, 1) := dk_42 (dk_at dksX3_keepsLaw_3 17 rfl rfl)
theorem dX3_keepsLaw_89 : decode cX3_keepsLaw 89 = .ok (.aload_n 0, 1) := dk_42 (dk_at dksX3_keepsLaw_3 18 rfl rfl)
theorem dX3_keepsLaw_90 : decode cX3_keepsLaw 90 = .ok (.getfield 53, 3) := dk_180 0 53 (dk_at dksX3_keepsLaw_3 19 rfl rfl)
theorem dX3_keepsLaw_93 : decode cX3_keepsLaw 93 = .ok (.iload_n 1, 1) := dk_27 (dk_at dksX3_keepsLaw_3 22 rfl rfl)
theorem dX3_keepsLaw_94 : decode cX3_keepsLaw 94 = .ok (.iaload, 1) := dk_46 (dk_at dksX3_keepsLaw_3 23 rfl rfl)
theorem dX3_keepsLaw_95 : decode cX3_keepsLaw 95 = .ok (.invokevirtual 326, 3) := dk_182 1 70 (dk_at dksX3_keepsLaw_4 0 rfl rfl)
theorem dX3_keepsLaw_98 : decode cX3_keepsLaw 98 = .ok (.iastore, 1) := dk_79 (dk_at dksX3_keepsLaw_4 3 rfl rfl)
theorem dX3_keepsLaw_99 : decode cX3_keepsLaw 99 = .ok (.aload_n 0, 1) := dk_42 (dk_at dksX3_keepsLaw_4 4 rfl rfl)
theorem dX3_keepsLaw_100 : decode cX3_keepsLaw 100 = .ok (.getfield 56, 3) := dk_180 0 56 (dk_at dksX3_keepsLaw_4 5 rfl rfl)
theorem dX3_keepsLaw_103 : decode cX3_keepsLaw 103 = .ok (.iload_n 1, 1) := dk_27 (dk_at dksX3_keepsLaw_4 8 rfl rfl)
theorem dX3_keepsLaw_104 : decode cX3_keepsLaw 104 = .ok (.aload_n 0, 1) := dk_42 (dk_at dksX3_keepsLaw_4 9 rfl rfl)
theorem dX3_keepsLaw_105 : decode cX3_keepsLaw 105 = .ok (.aload_n 0, 1) := dk_42 (dk_at dksX3_keepsLaw_4 10 rfl rfl)
theorem dX3_keepsLaw_106 : decode cX3_keepsLaw 106 = .ok (.getfield 56, 3) := dk_180 0 56 (dk_at dksX3_keepsLaw_4 11 rfl rfl)
theorem dX3_keepsLaw_109 : decode cX3_keepsLaw 109 = .ok (.iload_n 1, 1) := dk_27 (dk_at dksX3_keepsLaw_4 14 rfl rfl)
theorem dX3_keepsLaw_110 : decode cX3_keepsLaw 110 = .ok (.iaload, 1) := dk_46 (dk_at dksX3_keepsLaw_4 15 rfl rfl)
theorem dX3_keepsLaw_111 : decode cX3_keepsLaw 111 = .ok (.invokevirtual 326, 3) := dk_182 1 70 (dk_at dksX3_keepsLaw_4 16 rfl rfl)
theorem dX3_keepsLaw_114 : decode cX3_keepsLaw 114 = .ok (.iastore, 1) := dk_79 (dk_at dksX3_keepsLaw_4 19 rfl rfl)
theorem dX3_keepsLaw_115 : decode cX3_keepsLaw 115 = .ok (.iinc 1 1, 3) := dk_132 1 1 (dk_at dksX3_keepsLaw_4 20 rfl rfl)
theorem dX3_keepsLaw_118 : decode cX3_keepsLaw 118 = .ok (.goto (-42), 3) := dk_167 255 214 (dk_at dksX3_keepsLaw_5 0 rfl rfl)
theorem dX3_keepsLaw_121 : decode cX3_keepsLaw 121 = .ok (.return_, 1) := dk_177 (dk_at dksX3_keepsLaw_5 3 rfl rfl)
abbrev cX3_look : ByteArray := prog_14_method_84_code
def yX3_look : MethodName := ⟨RX3, "look", "(I)I"⟩
def dkwX3_look_7 : List UInt8 := [16, 22, 160, 0, 10, 42, 180, 0, 117, 167, 0, 4, 2, 172]
abbrev dktX3_look_7 : List UInt8 := dkwX3_look_7 ++ []
def dkwX3_look_6 : List UInt8 := [160, 0, 10, 42, 180, 0, 111, 167, 0, 30, 27, 16, 21, 160, 0, 10, 42, 180, 0, 114, 167, 0, 17, 27]
abbrev dktX3_look_6 : List UInt8 := dkwX3_look_6 ++ dktX3_look_7
def dkwX3_look_5 : List UInt8 := [16, 10, 160, 0, 8, 42, 180, 0, 126, 172, 27, 16, 11, 160, 0, 8, 42, 180, 0, 89, 172, 27, 16, 20]
abbrev dktX3_look_5 : List UInt8 := dkwX3_look_5 ++ dktX3_look_6
def dkwX3_look_4 : List UInt8 := [160, 0, 8, 42, 180, 0, 120, 172, 27, 16, 9, 160, 0, 12, 42, 180, 0, 7, 17, 1, 90, 46, 172, 27]
abbrev dktX3_look_4 : List UInt8 := dkwX3_look_4 ++ dktX3_look_5
def dkwX3_look_3 : List UInt8 := [42, 180, 0, 7, 17, 1, 91, 46, 172, 27, 16, 7, 160, 0, 8, 42, 180, 0, 92, 172, 27, 16, 8]
abbrev dktX3_look_3 : List UInt8 := dkwX3_look_3 ++ dktX3_look_4
def dkwX3_look_2 : List UInt8 := [160, 0, 8, 42, 180, 0, 100, 172, 27, 8, 160, 0, 8, 42, 182, 1, 9, 172, 27, 16, 6, 160, 0, 12]
abbrev dktX3_look_2 : List UInt8 := dkwX3_look_2 ++ dktX3_look_3
def dkwX3_look_1 : List UInt8 := [27, 5, 160, 0, 8, 42, 180, 0, 123, 172, 27, 6, 160, 0, 8, 42, 180, 0, 97, 172, 27, 7]
abbrev dktX3_look_1 : List UInt8 := dkwX3_look_1 ++ dktX3_look_2
def dkwX3_look_0 : List UInt8 := [42, 3, 181, 0, 86, 27, 154, 0, 8, 42, 180, 0, 16, 172, 27, 4, 160, 0, 8, 42, 180, 0, 20, 172]
abbrev dktX3_look_0 : List UInt8 := dkwX3_look_0 ++ dktX3_look_1
theorem dksX3_look_0 : cX3_look.data.toList.drop 0 = dktX3_look_0 := by decide +kernel
theorem dksX3_look_1 : cX3_look.data.toList.drop 24 = dktX3_look_1 := dk_seg dksX3_look_0 24 rfl rfl
theorem dksX3_look_2 : cX3_look.data.toList.drop 46 = dktX3_look_2 := dk_seg dksX3_look_1 22 rfl rfl
theorem dksX3_look_3 : cX3_look.data.toList.drop 70 = dktX3_look_3 := dk_seg dksX3_look_2 24 rfl rfl
theorem dksX3_look_4 : cX3_look.data.toList.drop 93 = dktX3_look_4 := dk_seg dksX3_look_3 23 rfl rfl
theorem dksX3_look_5 : cX3_look.data.toList.drop 117 = dktX3_look_5 := dk_seg dksX3_look_4 24 rfl rfl
theorem dksX3_look_6 : cX3_look.data.toList.drop 141 = dktX3_look_6 := dk_seg dksX3_look_5 24 rfl rfl
theorem dksX3_look_7 : cX3_look.data.toList.drop 165 = dktX3_look_7 := dk_seg dksX3_look_6 24 rfl rfl
theorem dX3_look_0 : decode cX3_look 0 = .ok (.aload_n 0, 1) := dk_42 (dk_at dksX3_look_0 0 rfl rfl)
theorem dX3_look_1 : decode cX3_look 1 = .ok (.iconst 0, 1) := dk_3 (dk_at dksX3_look_0 1 rfl rfl)
theorem dX3_look_2 : decode cX3_look 2 = .ok (.putfield 86, 3) := dk_181 0 86 (dk_at dksX3_look_0 2 rfl rfl)
theorem dX3_look_5 : decode cX3_look 5 = .ok (.iload_n 1, 1) := dk_27 (dk_at dksX3_look_0 5 rfl rfl)
theorem dX3_look_6 : decode cX3_look 6 = .ok (.ifCond .ne 8, 3) := dk_154 0 8 (dk_at dksX3_look_0 6 rfl rfl)
theorem dX3_look_9 : decode cX3_look 9 = .ok (.aload_n 0, 1) := dk_42 (dk_at dksX3_look_0 9 rfl rfl)
theorem dX3_look_10 : decode cX3_look 10 = .ok (.getfield 16, 3) := dk_180 0 16 (dk_at dksX3_look_0 10 rfl rfl)
theorem dX3_look_13 : decode cX3_look 13 = .ok (.ireturn, 1) := dk_172 (dk_at dksX3_look_0 13 rfl rfl)
theorem dX3_look_14 : decode cX3_look 14 = .ok (.iload_n 1, 1) := dk_27 (dk_at dksX3_look_0 14 rfl rfl)
theorem dX3_look_15 : decode cX3_look 15 = .ok (.iconst 1, 1) := dk_4 (dk_at dksX3_look_0 15 rfl rfl)
theorem dX3_look_16 : decode cX3_look 16 = .ok (.if_icmp .ne 8, 3) := dk_160 0 8 (dk_at dksX3_look_0 16 rfl rfl)
theorem dX3_look_19 : decode cX3_look 19 = .ok (.aload_n 0, 1) := dk_42 (dk_at dksX3_look_0 19 rfl rfl)
theorem dX3_look_20 : decode cX3_look 20 = .ok (.getfield 20, 3) := dk_180 0 20 (dk_at dksX3_look_0 20 rfl rfl)
theorem dX3_look_23 : decode cX3_look 23 = .ok (.ireturn, 1) := dk_172 (dk_at dksX3_look_0 23 rfl rfl)
theorem dX3_look_24 : decode cX3_look 24 = .ok (.iload_n 1, 1) := dk_27 (dk_at dksX3_look_1 0 rfl rfl)
theorem dX3_look_25 : decode cX3_look 25 = .ok (.iconst 2, 1) := dk_5 (dk_at dksX3_look_1 1 rfl rfl)
theorem dX3_look_26 : decode cX3_look 26 = .ok (.if_icmp .ne 8, 3) := dk_160 0 8 (dk_at dksX3_look_1 2 rfl rfl)
theorem dX3_look_29 : decode cX3_look 29 = .ok (.aload_n 0, 1) := dk_42 (dk_at dksX3_look_1 5 rfl rfl)
theorem dX3_look_30 : decode cX3_look 30 = .ok (.getfield 123, 3) := dk_180 0 123 (dk_at dksX3_look_1 6 rfl rfl)
theorem dX3_look_33 : decode cX3_look 33 = .ok (.ireturn, 1) := dk_172 (dk_at dksX3_look_1 9 rfl rfl)
theorem dX3_look_34 : decode cX3_look 34 = .ok (.iload_n 1, 1) := dk_27 (dk_at dksX3_look_1 10 rfl rfl)
theorem dX3_look_35 : decode cX3_look 35 = .ok (.iconst 3, 1) := dk_6 (dk_at dksX3_look_1 11 rfl rfl)
theorem dX3_look_36 : decode cX3_look 36 = .ok (.if_icmp .ne 8, 3) := dk_160 0 8 (dk_at dksX3_look_1 12 rfl rfl)
theorem dX3_look_39 : decode cX3_look 39 = .ok (.aload_n 0, 1) := dk_42 (dk_at dksX3_look_1 15 rfl rfl)
theorem dX3_look_40 : decode cX3_look 40 = .ok (.getfield 97, 3) := dk_180 0 97 (dk_at dksX3_look_1 16 rfl rfl)
theorem dX3_look_43 : decode cX3_look 43 = .ok (.ireturn, 1) := dk_172 (dk_at dksX3_look_1 19 rfl rfl)
theorem dX3_look_44 : decode cX3_look 44 = .ok (.iload_n 1, 1) := dk_27 (dk_at dksX3_look_1 20 rfl rfl)
theorem dX3_look_45 : decode cX3_look 45 = .ok (.iconst 4, 1) := dk_7 (dk_at dksX3_look_1 21 rfl rfl)
theorem dX3_look_46 : decode cX3_look 46 = .ok (.if_icmp .ne 8, 3) := dk_160 0 8 (dk_at dksX3_look_2 0 rfl rfl)
theorem dX3_look_49 : decode cX3_look 49 = .ok (.aload_n 0, 1) := dk_42 (dk_at dksX3_look_2 3 rfl rfl)
theorem dX3_look_50 : decode cX3_look 50 = .ok (.getfield 100, 3) := dk_180 0 100 (dk_at dksX3_look_2 4 rfl rfl)
theorem dX3_look_53 : decode cX3_look 53 = .ok (.ireturn, 1) := dk_172 (dk_at dksX3_look_2 7 rfl rfl)
theorem dX3_look_54 : decode cX3_look 54 = .ok (.iload_n 1, 1) := dk_27 (dk_at dksX3_look_2 8 rfl rfl)
theorem dX3_look_55 : decode cX3_look 55 = .ok (.iconst 5, 1) := dk_8 (dk_at dksX3_look_2 9 rfl rfl)
theorem dX3_look_56 : decode cX3_look 56 = .ok (.if_icmp .ne 8, 3) := dk_160 0 8 (dk_at dksX3_look_2 10 rfl rfl)
theorem dX3_look_59 : decode cX3_look 59 = .ok (.aload_n 0, 1) := dk_42 (dk_at dksX3_look_2 13 rfl rfl)
theorem dX3_look_60 : decode cX3_look 60 = .ok (.invokevirtual 265, 3) := dk_182 1 9 (dk_at dksX3_look_2 14 rfl rfl)
theorem dX3_look_63 : decode cX3_look 63 = .ok (.ireturn, 1) := dk_172 (dk_at dksX3_look_2 17 rfl rfl)
theorem dX3_look_64 : decode cX3_look 64 = .ok (.iload_n 1, 1) := dk_27 (dk_at dksX3_look_2 18 rfl rfl)
theorem dX3_look_65 : decode cX3_look 65 = .ok (.bipush 6, 2) := dk_16 6 (dk_at dksX3_look_2 19 rfl rfl)
theorem dX3_look_67 : decode cX3_look 67 = .ok (.if_icmp .ne 12, 3) := dk_160 0 12 (dk_at dksX3_look_2 21 rfl rfl)
theorem dX3_look_70 : decode cX3_look 70 = .ok (.aload_n 0, 1) := dk_42 (dk_at dksX3_look_3 0 rfl rfl)
theorem dX3_look_71 : decode cX3_look 71 = .ok (.getfield 7, 3) := dk_180 0 7 (dk_at dksX3_look_3 1 rfl rfl)
theorem dX3_look_74 : decode cX3_look 74 = .ok (.sipush 347, 3) := dk_17 1 91 (dk_at dksX3_look_3 4 rfl rfl)
theorem dX3_look_77 : decode cX3_look 77 = .ok (.iaload, 1) := dk_46 (dk_at dksX3_look_3 7 rfl rfl)
theorem dX3_look_78 : decode cX3_look 78 = .ok (.ireturn, 1) := dk_172 (dk_at dksX3_look_3 8 rfl rfl)
theorem dX3_look_79 : decode cX3_look 79 = .ok (.iload_n 1, 1) := dk_27 (dk_at dksX3_look_3 9 rfl rfl)
theorem dX3_look_80 : decode cX3_look 80 = .ok (.bipush 7, 2) := dk_16 7 (dk_at dksX3_look_3 10 rfl rfl)
theorem dX3_look_82 : decode cX3_look 82 = .ok (.if_icmp .ne 8, 3) := dk_160 0 8 (dk_at dksX3_look_3 12 rfl rfl)
theorem dX3_look_85 : decode cX3_look 85 = .ok (.aload_n 0, 1) := dk_42 (dk_at dksX3_look_3 15 rfl rfl)
theorem dX3_look_86 : decode cX3_look 86 = .ok (.getfield 92, 3) := dk_180 0 92 (dk_at dksX3_look_3 16 rfl rfl)
theorem dX3_look_89 : decode cX3_look 89 = .ok (.ireturn, 1) := dk_172 (dk_at dksX3_look_3 19 rfl rfl)
theorem dX3_look_90 : decode cX3_look 90 = .ok (.iload_n 1, 1) := dk_27 (dk_at dksX3_look_3 20 rfl rfl)
theorem dX3_look_91 : decode cX3_look 91 = .ok (.bipush 8, 2) := dk_16 8 (dk_at dksX3_look_3 21 rfl rfl)
theorem dX3_look_93 : decode cX3_look 93 = .ok (.if_icmp .ne 8, 3) := dk_160 0 8 (dk_at dksX3_look_4 0 rfl rfl)
theorem dX3_look_96 : decode cX3_look 96 = .ok (.aload_n 0, 1) := dk_42 (dk_at dksX3_look_4 3 rfl rfl)
theorem dX3_look_97 : decode cX3_look 97 = .ok (.getfield 120, 3) := dk_180 0 120 (dk_at dksX3_look_4 4 rfl rfl)
theorem dX3_look_100 : decode cX3_look 100 = .ok (.ireturn, 1) := dk_172 (dk_at dksX3_look_4 7 rfl rfl)
theorem dX3_look_101 : decode cX3_look 101 = .ok (.iload_n 1, 1) := dk_27 (dk_at dksX3_look_4 8 rfl rfl)
theorem dX3_look_102 : decode cX3_look 102 = .ok (.bipush 9, 2) := dk_16 9 (dk_at dksX3_look_4 9 rfl rfl)
theorem dX3_look_104 : decode cX3_look 104 = .ok (.if_icmp .ne 12, 3) := dk_160 0 12 (dk_at dksX3_look_4 11 rfl rfl)
theorem dX3_look_107 : decode cX3_look 107 = .ok (.aload_n 0, 1) := dk_42 (dk_at dksX3_look_4 14 rfl rfl)
theorem dX3_look_108 : decode cX3_look 108 = .ok (.getfield 7, 3) := dk_180 0 7 (dk_at dksX3_look_4 15 rfl rfl)
theorem dX3_look_111 : decode cX3_look 111 = .ok (.sipush 346, 3) := dk_17 1 90 (dk_at dksX3_look_4 18 rfl rfl)
theorem dX3_look_114 : decode cX3_look 114 = .ok (.iaload, 1) := dk_46 (dk_at dksX3_look_4 21 rfl rfl)
theorem dX3_look_115 : decode cX3_look 115 = .ok (.ireturn, 1) := dk_172 (dk_at dksX3_look_4 22 rfl rfl)
theorem dX3_look_116 : decode cX3_look 116 = .ok (.iload_n 1, 1) := dk_27 (dk_at dksX3_look_4 23 rfl rfl)
theorem dX3_look_117 : decode cX3_look 117 = .ok (.bipush 10, 2) := dk_16 10 (dk_at dksX3_look_5 0 rfl rfl)
theorem dX3_look_119 : decode cX3_look 119 = .ok (.if_icmp .ne 8, 3) := dk_160 0 8 (dk_at dksX3_look_5 2 rfl rfl)
theorem dX3_look_122 : decode cX3_look 122 = .ok (.aload_n 0, 1) := dk_42 (dk_at dksX3_look_5 5 rfl rfl)
theorem dX3_look_123 : decode cX3_look 123 = .ok (.getfield 126, 3) := dk_180 0 126 (dk_at dksX3_look_5 6 rfl rfl)
theorem dX3_look_126 : decode cX3_look 126 = .ok (.ireturn, 1) := dk_172 (dk_at dksX3_look_5 9 rfl rfl)
theorem dX3_look_127 : decode cX3_look 127 = .ok (.iload_n 1, 1) := dk_27 (dk_at dksX3_look_5 10 rfl rfl)
theorem dX3_look_128 : decode cX3_look 128 = .ok (.bipush 11, 2) := dk_16 11 (dk_at dksX3_look_5 11 rfl rfl)
theorem dX3_look_130 : decode cX3_look 130 = .ok (.if_icmp .ne 8, 3) := dk_160 0 8 (dk_at dksX3_look_5 13 rfl rfl)
theorem dX3_look_133 : decode cX3_look 133 = .ok (.aload_n 0, 1) := dk_42 (dk_at dksX3_look_5 16 rfl rfl)
theorem dX3_look_134 : decode cX3_look 134 = .ok (.getfield 89, 3) := dk_180 0 89 (dk_at dksX3_look_5 17 rfl rfl)
theorem dX3_look_137 : decode cX3_look 137 = .ok (.ireturn, 1) := dk_172 (dk_at dksX3_look_5 20 rfl rfl)
theorem dX3_look_138 : decode cX3_look 138 = .ok (.iload_n 1, 1) := dk_27 (dk_at dksX3_look_5 21 rfl rfl)
theorem dX3_look_139 : decode cX3_look 139 = .ok (.bipush 20, 2) := dk_16 20 (dk_at dksX3_look_5 22 rfl rfl)
theorem dX3_look_141 : decode cX3_look 141 = .ok (.if_icmp .ne 10, 3) := dk_160 0 10 (dk_at dksX3_look_6 0 rfl rfl)
theorem dX3_look_144 : decode cX3_look 144 = .ok (.aload_n 0, 1) := dk_42 (dk_at dksX3_look_6 3 rfl rfl)
theorem dX3_look_145 : decode cX3_look 145 = .ok (.getfield 111, 3) := dk_180 0 111 (dk_at dksX3_look_6 4 rfl rfl)
theorem dX3_look_148 : decode cX3_look 148 = .ok (.goto 30, 3) := dk_167 0 30 (dk_at dksX3_look_6 7 rfl rfl)
theorem dX3_look_151 : decode cX3_look 151 = .ok (.iload_n 1, 1) := dk_27 (dk_at dksX3_look_6 10 rfl rfl)
theorem dX3_look_152 : decode cX3_look 152 = .ok (.bipush 21, 2) := dk_16 21 (dk_at dksX3_look_6 11 rfl rfl)
theorem dX3_look_154 : decode cX3_look 154 = .ok (.if_icmp .ne 10, 3) := dk_160 0 10 (dk_at dksX3_look_6 13 rfl rfl)
theorem dX3_look_157 : decode cX3_look 157 = .ok (.aload_n 0, 1) := dk_42 (dk_at dksX3_look_6 16 rfl rfl)
theorem dX3_look_158 : decode cX3_look 158 = .ok (.getfield 114, 3) := dk_180 0 114 (dk_at dksX3_look_6 17 rfl rfl)
theorem dX3_look_161 : decode cX3_look 161 = .ok (.goto 17, 3) := dk_167 0 17 (dk_at dksX3_look_6 20 rfl rfl)
theorem dX3_look_164 : decode cX3_look 164 = .ok (.iload_n 1, 1) := dk_27 (dk_at dksX3_look_6 23 rfl rfl)
theorem dX3_look_165 : decode cX3_look 165 = .ok (.bipush 22, 2) := dk_16 22 (dk_at dksX3_look_7 0 rfl rfl)
theorem dX3_look_167 : decode cX3_look 167 = .ok (.if_icmp .ne 10, 3) := dk_160 0 10 (dk_at dksX3_look_7 2 rfl rfl)
theorem dX3_look_170 : decode cX3_look 170 = .ok (.aload_n 0, 1) := dk_42 (dk_at dksX3_look_7 5 rfl rfl)
theorem dX3_look_171 : decode cX3_look 171 = .ok (.getfield 117, 3) := dk_180 0 117 (dk_at dksX3_look_7 6 rfl rfl)
theorem dX3_look_174 : decode cX3_look 174 = .ok (.goto 4, 3) := dk_167 0 4 (dk_at dksX3_look_7 9 rfl rfl)
theorem dX3_look_177 : decode cX3_look 177 = .ok (.iconst (-1), 1) := dk_2 (dk_at dksX3_look_7 12 rfl rfl)
theorem dX3_look_178 : decode cX3_look 178 = .ok (.ireturn, 1) := dk_172 (dk_at dksX3_look_7 13 rfl rfl)
theorem q97 : (Jvm.Cond.initialized "LastWordWoodModel") ∈ lw_all := lw_g (lw_at lw_m1 7 rfl) rfl
theorem q687 : (Jvm.Cond.selects "LastWordWoodModel" ({ cls := "java/lang/Object", name := "getClass", desc := "()Ljava/lang/Class;" } : Jvm.MethodName) ({ cls := "java/lang/Object", name := "getClass", desc := "()Ljava/lang/Class;" } : Jvm.MethodName)) ∈ lw_all := lw_g (lw_at lw_m3 117 rfl) rfl
theorem q987 : (Jvm.Cond.instantiable "LastWordWoodModel" (50 : Nat)) ∈ lw_all := lw_g (lw_at lw_m4 177 rfl) rfl
theorem q989 : (Jvm.Cond.instanceMethod ({ cls := "LastWordWoodModel", name := "<init>", desc := "()V" } : Jvm.MethodName)) ∈ lw_all := lw_g (lw_at lw_m4 179 rfl) rfl
theorem q990 : (Jvm.Cond.code ({ cls := "LastWordWoodModel", name := "<init>", desc := "()V" } : Jvm.MethodName) prog_14_method_1_code (1 : Nat) (Option.none : Option Jvm.ClassFile.FieldType)) ∈ lw_all := lw_g (lw_at lw_m4 180 rfl) rfl
theorem q991 : (Jvm.Cond.methodLink "LastWordWoodModel" (1 : Nat) ({ cls := "java/lang/Object", name := "<init>", desc := "()V" } : Jvm.MethodName)) ∈ lw_all := lw_g (lw_at lw_m4 181 rfl) rfl
theorem q992 : (Jvm.Cond.fieldLink "LastWordWoodModel" (86 : Nat) "LastWordWoodModel" "told" "I") ∈ lw_all := lw_g (lw_at lw_m4 182 rfl) rfl
theorem q993 : (Jvm.Cond.fieldLink "LastWordWoodModel" (7 : Nat) "LastWordWoodModel" "now" "[I") ∈ lw_all := lw_g (lw_at lw_m4 183 rfl) rfl
theorem q994 : (Jvm.Cond.fieldLink "LastWordWoodModel" (13 : Nat) "LastWordWoodModel" "rows" "[I") ∈ lw_all := lw_g (lw_at lw_m4 184 rfl) rfl
theorem q995 : (Jvm.Cond.fieldLink "LastWordWoodModel" (89 : Nat) "LastWordWoodModel" "undoable" "I") ∈ lw_all := lw_g (lw_at lw_m4 185 rfl) rfl
theorem q996 : (Jvm.Cond.fieldLink "LastWordWoodModel" (92 : Nat) "LastWordWoodModel" "state" "I") ∈ lw_all := lw_g (lw_at lw_m4 186 rfl) rfl
theorem q997 : (Jvm.Cond.fieldLink "LastWordWoodModel" (16 : Nat) "LastWordWoodModel" "wide" "I") ∈ lw_all := lw_g (lw_at lw_m4 187 rfl) rfl
theorem q998 : (Jvm.Cond.fieldLink "LastWordWoodModel" (20 : Nat) "LastWordWoodModel" "high" "I") ∈ lw_all := lw_g (lw_at lw_m4 188 rfl) rfl
theorem q999 : (Jvm.Cond.fieldLink "LastWordWoodModel" (23 : Nat) "LastWordWoodModel" "damps" "[I") ∈ lw_all := lw_g (lw_at lw_m4 189 rfl) rfl
theorem q1000 : (Jvm.Cond.fieldLink "LastWordWoodModel" (97 : Nat) "LastWordWoodModel" "wordMany" "I") ∈ lw_all := lw_g (lw_at lw_m4 190 rfl) rfl
theorem q1001 : (Jvm.Cond.fieldLink "LastWordWoodModel" (26 : Nat) "LastWordWoodModel" "worthOf" "[I") ∈ lw_all := lw_g (lw_at lw_m4 191 rfl) rfl
theorem q1002 : (Jvm.Cond.fieldLink "LastWordWoodModel" (29 : Nat) "LastWordWoodModel" "poisonOf" "[I") ∈ lw_all := lw_g (lw_at lw_m4 192 rfl) rfl
theorem q1003 : (Jvm.Cond.fieldLink "LastWordWoodModel" (32 : Nat) "LastWordWoodModel" "curesOf" "[I") ∈ lw_all := lw_g (lw_at lw_m4 193 rfl) rfl
theorem q1004 : (Jvm.Cond.fieldLink "LastWordWoodModel" (100 : Nat) "LastWordWoodModel" "people" "I") ∈ lw_all := lw_g (lw_at lw_m4 194 rfl) rfl
theorem q1005 : (Jvm.Cond.fieldLink "LastWordWoodModel" (111 : Nat) "LastWordWoodModel" "rain" "I") ∈ lw_all := lw_g (lw_at lw_m4 195 rfl) rfl
theorem q1006 : (Jvm.Cond.fieldLink "LastWordWoodModel" (114 : Nat) "LastWordWoodModel" "frost" "I") ∈ lw_all := lw_g (lw_at lw_m4 196 rfl) rfl
theorem q1007 : (Jvm.Cond.fieldLink "LastWordWoodModel" (117 : Nat) "LastWordWoodModel" "deer" "I") ∈ lw_all := lw_g (lw_at lw_m4 197 rfl) rfl
theorem q1008 : (Jvm.Cond.fieldLink "LastWordWoodModel" (120 : Nat) "LastWordWoodModel" "frozen" "I") ∈ lw_all := lw_g (lw_at lw_m4 198 rfl) rfl
theorem q1009 : (Jvm.Cond.fieldLink "LastWordWoodModel" (123 : Nat) "LastWordWoodModel" "day" "I") ∈ lw_all := lw_g (lw_at lw_m4 199 rfl) rfl
theorem q1010 : (Jvm.Cond.fieldLink "LastWordWoodModel" (35 : Nat) "LastWordWoodModel" "book" "[I") ∈ lw_all := lw_g (lw_at lw_m4 200 rfl) rfl
theorem q1011 : (Jvm.Cond.fieldLink "LastWordWoodModel" (38 : Nat) "LastWordWoodModel" "tape" "[I") ∈ lw_all := lw_g (lw_at lw_m4 201 rfl) rfl
theorem q1012 : (Jvm.Cond.fieldLink "LastWordWoodModel" (153 : Nat) "LastWordWoodModel" "taped" "I") ∈ lw_all := lw_g (lw_at lw_m4 202 rfl) rfl
theorem q1013 : (Jvm.Cond.fieldLink "LastWordWoodModel" (160 : Nat) "LastWordWoodModel" "spot" "I") ∈ lw_all := lw_g (lw_at lw_m4 203 rfl) rfl
theorem q1014 : (Jvm.Cond.fieldLink "LastWordWoodModel" (166 : Nat) "LastWordWoodModel" "from" "I") ∈ lw_all := lw_g (lw_at lw_m4 204 rfl) rfl
theorem q1015 : (Jvm.Cond.fieldLink "LastWordWoodModel" (169 : Nat) "LastWordWoodModel" "token" "I") ∈ lw_all := lw_g (lw_at lw_m4 205 rfl) rfl
theorem q1016 : (Jvm.Cond.fieldLink "LastWordWoodModel" (172 : Nat) "LastWordWoodModel" "value" "I") ∈ lw_all := lw_g (lw_at lw_m4 206 rfl) rfl
theorem q1017 : (Jvm.Cond.fieldLink "LastWordWoodModel" (41 : Nat) "LastWordWoodModel" "words" "[I") ∈ lw_all := lw_g (lw_at lw_m4 207 rfl) rfl
theorem q1018 : (Jvm.Cond.fieldLink "LastWordWoodModel" (126 : Nat) "LastWordWoodModel" "lineMany" "I") ∈ lw_all := lw_g (lw_at lw_m4 208 rfl) rfl
theorem q1019 : (Jvm.Cond.fieldLink "LastWordWoodModel" (44 : Nat) "LastWordWoodModel" "lineWhen" "[I") ∈ lw_all := lw_g (lw_at lw_m4 209 rfl) rfl
theorem q1020 : (Jvm.Cond.fieldLink "LastWordWoodModel" (47 : Nat) "LastWordWoodModel" "lineFrom" "[I") ∈ lw_all := lw_g (lw_at lw_m4 210 rfl) rfl
theorem q1021 : (Jvm.Cond.fieldLink "LastWordWoodModel" (50 : Nat) "LastWordWoodModel" "lineTo" "[I") ∈ lw_all := lw_g (lw_at lw_m4 211 rfl) rfl
theorem q1022 : (Jvm.Cond.fieldLink "LastWordWoodModel" (53 : Nat) "LastWordWoodModel" "op" "[I") ∈ lw_all := lw_g (lw_at lw_m4 212 rfl) rfl
theorem q1023 : (Jvm.Cond.fieldLink "LastWordWoodModel" (56 : Nat) "LastWordWoodModel" "arg" "[I") ∈ lw_all := lw_g (lw_at lw_m4 213 rfl) rfl
theorem q1024 : (Jvm.Cond.fieldLink "LastWordWoodModel" (194 : Nat) "LastWordWoodModel" "codes" "I") ∈ lw_all := lw_g (lw_at lw_m4 214 rfl) rfl
theorem q1025 : (Jvm.Cond.fieldLink "LastWordWoodModel" (222 : Nat) "LastWordWoodModel" "open" "I") ∈ lw_all := lw_g (lw_at lw_m4 215 rfl) rfl
theorem q1026 : (Jvm.Cond.fieldLink "LastWordWoodModel" (59 : Nat) "LastWordWoodModel" "pending" "[I") ∈ lw_all := lw_g (lw_at lw_m4 216 rfl) rfl
theorem q1027 : (Jvm.Cond.fieldLink "LastWordWoodModel" (219 : Nat) "LastWordWoodModel" "pendings" "I") ∈ lw_all := lw_g (lw_at lw_m4 217 rfl) rfl
theorem q1028 : (Jvm.Cond.fieldLink "LastWordWoodModel" (188 : Nat) "LastWordWoodModel" "readFault" "I") ∈ lw_all := lw_g (lw_at lw_m4 218 rfl) rfl
theorem q1029 : (Jvm.Cond.fieldLink "LastWordWoodModel" (191 : Nat) "LastWordWoodModel" "readPlace" "I") ∈ lw_all := lw_g (lw_at lw_m4 219 rfl) rfl
theorem q1030 : (Jvm.Cond.fieldLink "LastWordWoodModel" (240 : Nat) "LastWordWoodModel" "faultKind" "I") ∈ lw_all := lw_g (lw_at lw_m4 220 rfl) rfl
theorem q1031 : (Jvm.Cond.fieldLink "LastWordWoodModel" (62 : Nat) "LastWordWoodModel" "faultPlace" "I") ∈ lw_all := lw_g (lw_at lw_m4 221 rfl) rfl
theorem q1032 : (Jvm.Cond.fieldLink "LastWordWoodModel" (65 : Nat) "LastWordWoodModel" "asked" "[I") ∈ lw_all := lw_g (lw_at lw_m4 222 rfl) rfl
theorem q1033 : (Jvm.Cond.fieldLink "LastWordWoodModel" (68 : Nat) "LastWordWoodModel" "stack" "[I") ∈ lw_all := lw_g (lw_at lw_m4 223 rfl) rfl
theorem q1034 : (Jvm.Cond.fieldLink "LastWordWoodModel" (71 : Nat) "LastWordWoodModel" "sizeOf" "[I") ∈ lw_all := lw_g (lw_at lw_m4 224 rfl) rfl
theorem q1035 : (Jvm.Cond.fieldLink "LastWordWoodModel" (74 : Nat) "LastWordWoodModel" "grown" "[I") ∈ lw_all := lw_g (lw_at lw_m4 225 rfl) rfl
theorem q1036 : (Jvm.Cond.fieldLink "LastWordWoodModel" (77 : Nat) "LastWordWoodModel" "lacking" "[I") ∈ lw_all := lw_g (lw_at lw_m4 226 rfl) rfl
theorem q1037 : (Jvm.Cond.fieldLink "LastWordWoodModel" (80 : Nat) "LastWordWoodModel" "placeOf" "[I") ∈ lw_all := lw_g (lw_at lw_m4 227 rfl) rfl
theorem q1038 : (Jvm.Cond.fieldLink "LastWordWoodModel" (322 : Nat) "LastWordWoodModel" "isTaking" "Z") ∈ lw_all := lw_g (lw_at lw_m4 228 rfl) rfl
theorem q1039 : (Jvm.Cond.fieldLink "LastWordWoodModel" (329 : Nat) "LastWordWoodModel" "hasImage" "Z") ∈ lw_all := lw_g (lw_at lw_m4 229 rfl) rfl
theorem q1040 : (Jvm.Cond.fieldLink "LastWordWoodModel" (319 : Nat) "LastWordWoodModel" "keptAt" "I") ∈ lw_all := lw_g (lw_at lw_m4 230 rfl) rfl
theorem q1041 : (Jvm.Cond.fieldLink "LastWordWoodModel" (83 : Nat) "LastWordWoodModel" "images" "[I") ∈ lw_all := lw_g (lw_at lw_m4 231 rfl) rfl
theorem q1042 : (Jvm.Cond.lays "LastWordWoodModel" "LastWordWoodModel" "told" "I") ∈ lw_all := lw_g (lw_at lw_m4 232 rfl) rfl
theorem q1043 : (Jvm.Cond.soleField "LastWordWoodModel" "told") ∈ lw_all := lw_g (lw_at lw_m4 233 rfl) rfl
theorem q1044 : (Jvm.Cond.laysFinal "LastWordWoodModel" "LastWordWoodModel" "now" "[I") ∈ lw_all := lw_g (lw_at lw_m4 234 rfl) rfl
theorem q1045 : (Jvm.Cond.soleField "LastWordWoodModel" "now") ∈ lw_all := lw_g (lw_at lw_m4 235 rfl) rfl
theorem q1046 : (Jvm.Cond.laysFinal "LastWordWoodModel" "LastWordWoodModel" "rows" "[I") ∈ lw_all := lw_g (lw_at lw_m4 236 rfl) rfl
theorem q1047 : (Jvm.Cond.soleField "LastWordWoodModel" "rows") ∈ lw_all := lw_g (lw_at lw_m4 237 rfl) rfl
theorem q1048 : (Jvm.Cond.lays "LastWordWoodModel" "LastWordWoodModel" "undoable" "I") ∈ lw_all := lw_g (lw_at lw_m4 238 rfl) rfl
theorem q1049 : (Jvm.Cond.soleField "LastWordWoodModel" "undoable") ∈ lw_all := lw_g (lw_at lw_m4 239 rfl) rfl
theorem q1050 : (Jvm.Cond.lays "LastWordWoodModel" "LastWordWoodModel" "state" "I") ∈ lw_all := lw_g (lw_at lw_m5 0 rfl) rfl
theorem q1051 : (Jvm.Cond.soleField "LastWordWoodModel" "state") ∈ lw_all := lw_g (lw_at lw_m5 1 rfl) rfl
theorem q1052 : (Jvm.Cond.lays "LastWordWoodModel" "LastWordWoodModel" "wide" "I") ∈ lw_all := lw_g (lw_at lw_m5 2 rfl) rfl
theorem q1053 : (Jvm.Cond.soleField "LastWordWoodModel" "wide") ∈ lw_all := lw_g (lw_at lw_m5 3 rfl) rfl
theorem q1054 : (Jvm.Cond.lays "LastWordWoodModel" "LastWordWoodModel" "high" "I") ∈ lw_all := lw_g (lw_at lw_m5 4 rfl) rfl
theorem q1055 : (Jvm.Cond.soleField "LastWordWoodModel" "high") ∈ lw_all := lw_g (lw_at lw_m5 5 rfl) rfl
theorem q1056 : (Jvm.Cond.laysFinal "LastWordWoodModel" "LastWordWoodModel" "damps" "[I") ∈ lw_all := lw_g (lw_at lw_m5 6 rfl) rfl
theorem q1057 : (Jvm.Cond.soleField "LastWordWoodModel" "damps") ∈ lw_all := lw_g (lw_at lw_m5 7 rfl) rfl
theorem q1058 : (Jvm.Cond.lays "LastWordWoodModel" "LastWordWoodModel" "wordMany" "I") ∈ lw_all := lw_g (lw_at lw_m5 8 rfl) rfl
theorem q1059 : (Jvm.Cond.soleField "LastWordWoodModel" "wordMany") ∈ lw_all := lw_g (lw_at lw_m5 9 rfl) rfl
theorem q1060 : (Jvm.Cond.laysFinal "LastWordWoodModel" "LastWordWoodModel" "worthOf" "[I") ∈ lw_all := lw_g (lw_at lw_m5 10 rfl) rfl
theorem q1061 : (Jvm.Cond.soleField "LastWordWoodModel" "worthOf") ∈ lw_all := lw_g (lw_at lw_m5 11 rfl) rfl
theorem q1062 : (Jvm.Cond.laysFinal "LastWordWoodModel" "LastWordWoodModel" "poisonOf" "[I") ∈ lw_all := lw_g (lw_at lw_m5 12 rfl) rfl
theorem q1063 : (Jvm.Cond.soleField "LastWordWoodModel" "poisonOf") ∈ lw_all := lw_g (lw_at lw_m5 13 rfl) rfl
theorem q1064 : (Jvm.Cond.laysFinal "LastWordWoodModel" "LastWordWoodModel" "curesOf" "[I") ∈ lw_all := lw_g (lw_at lw_m5 14 rfl) rfl
theorem q1065 : (Jvm.Cond.soleField "LastWordWoodModel" "curesOf") ∈ lw_all := lw_g (lw_at lw_m5 15 rfl) rfl
theorem q1066 : (Jvm.Cond.lays "LastWordWoodModel" "LastWordWoodModel" "people" "I") ∈ lw_all := lw_g (lw_at lw_m5 16 rfl) rfl
theorem q1067 : (Jvm.Cond.soleField "LastWordWoodModel" "people") ∈ lw_all := lw_g (lw_at lw_m5 17 rfl) rfl
theorem q1068 : (Jvm.Cond.lays "LastWordWoodModel" "LastWordWoodModel" "rain" "I") ∈ lw_all := lw_g (lw_at lw_m5 18 rfl) rfl
theorem q1069 : (Jvm.Cond.soleField "LastWordWoodModel" "rain") ∈ lw_all := lw_g (lw_at lw_m5 19 rfl) rfl
theorem q1070 : (Jvm.Cond.lays "LastWordWoodModel" "LastWordWoodModel" "frost" "I") ∈ lw_all := lw_g (lw_at lw_m5 20 rfl) rfl
theorem q1071 : (Jvm.Cond.soleField "LastWordWoodModel" "frost") ∈ lw_all := lw_g (lw_at lw_m5 21 rfl) rfl
theorem q1072 : (Jvm.Cond.lays "LastWordWoodModel" "LastWordWoodModel" "deer" "I") ∈ lw_all := lw_g (lw_at lw_m5 22 rfl) rfl
theorem q1073 : (Jvm.Cond.soleField "LastWordWoodModel" "deer") ∈ lw_all := lw_g (lw_at lw_m5 23 rfl) rfl
theorem q1074 : (Jvm.Cond.lays "LastWordWoodModel" "LastWordWoodModel" "frozen" "I") ∈ lw_all := lw_g (lw_at lw_m5 24 rfl) rfl
theorem q1075 : (Jvm.Cond.soleField "LastWordWoodModel" "frozen") ∈ lw_all := lw_g (lw_at lw_m5 25 rfl) rfl
theorem q1076 : (Jvm.Cond.lays "LastWordWoodModel" "LastWordWoodModel" "day" "I") ∈ lw_all := lw_g (lw_at lw_m5 26 rfl) rfl
theorem q1077 : (Jvm.Cond.soleField "LastWordWoodModel" "day") ∈ lw_all := lw_g (lw_at lw_m5 27 rfl) rfl
theorem q1078 : (Jvm.Cond.laysFinal "LastWordWoodModel" "LastWordWoodModel" "book" "[I") ∈ lw_all := lw_g (lw_at lw_m5 28 rfl) rfl
theorem q1079 : (Jvm.Cond.soleField "LastWordWoodModel" "book") ∈ lw_all := lw_g (lw_at lw_m5 29 rfl) rfl
theorem q1080 : (Jvm.Cond.laysFinal "LastWordWoodModel" "LastWordWoodModel" "tape" "[I") ∈ lw_all := lw_g (lw_at lw_m5 30 rfl) rfl
theorem q1081 : (Jvm.Cond.soleField "LastWordWoodModel" "tape") ∈ lw_all := lw_g (lw_at lw_m5 31 rfl) rfl
theorem q1082 : (Jvm.Cond.lays "LastWordWoodModel" "LastWordWoodModel" "taped" "I") ∈ lw_all := lw_g (lw_at lw_m5 32 rfl) rfl
theorem q1083 : (Jvm.Cond.soleField "LastWordWoodModel" "taped") ∈ lw_all := lw_g (lw_at lw_m5 33 rfl) rfl
theorem q1084 : (Jvm.Cond.lays "LastWordWoodModel" "LastWordWoodModel" "spot" "I") ∈ lw_all := lw_g (lw_at lw_m5 34 rfl) rfl
theorem q1085 : (Jvm.Cond.soleField "LastWordWoodModel" "spot") ∈ lw_all := lw_g (lw_at lw_m5 35 rfl) rfl
theorem q1086 : (Jvm.Cond.lays "LastWordWoodModel" "LastWordWoodModel" "from" "I") ∈ lw_all := lw_g (lw_at lw_m5 36 rfl) rfl
theorem q1087 : (Jvm.Cond.soleField "LastWordWoodModel" "from") ∈ lw_all := lw_g (lw_at lw_m5 37 rfl) rfl
theorem q1088 : (Jvm.Cond.lays "LastWordWoodModel" "LastWordWoodModel" "token" "I") ∈ lw_all := lw_g (lw_at lw_m5 38 rfl) rfl
theorem q1089 : (Jvm.Cond.soleField "LastWordWoodModel" "token") ∈ lw_all := lw_g (lw_at lw_m5 39 rfl) rfl
theorem q1090 : (Jvm.Cond.lays "LastWordWoodModel" "LastWordWoodModel" "value" "I") ∈ lw_all := lw_g (lw_at lw_m5 40 rfl) rfl
theorem q1091 : (Jvm.Cond.soleField "LastWordWoodModel" "value") ∈ lw_all := lw_g (lw_at lw_m5 41 rfl) rfl
theorem q1092 : (Jvm.Cond.laysFinal "LastWordWoodModel" "LastWordWoodModel" "words" "[I") ∈ lw_all := lw_g (lw_at lw_m5 42 rfl) rfl
theorem q1093 : (Jvm.Cond.soleField "LastWordWoodModel" "words") ∈ lw_all := lw_g (lw_at lw_m5 43 rfl) rfl
theorem q1094 : (Jvm.Cond.lays "LastWordWoodModel" "LastWordWoodModel" "lineMany" "I") ∈ lw_all := lw_g (lw_at lw_m5 44 rfl) rfl
theorem q1095 : (Jvm.Cond.soleField "LastWordWoodModel" "lineMany") ∈ lw_all := lw_g (lw_at lw_m5 45 rfl) rfl
theorem q1096 : (Jvm.Cond.laysFinal "LastWordWoodModel" "LastWordWoodModel" "lineWhen" "[I") ∈ lw_all := lw_g (lw_at lw_m5 46 rfl) rfl
theorem q1097 : (Jvm.Cond.soleField "LastWordWoodModel" "lineWhen") ∈ lw_all := lw_g (lw_at lw_m5 47 rfl) rfl
theorem q1098 : (Jvm.Cond.laysFinal "LastWordWoodModel" "LastWordWoodModel" "lineFrom" "[I") ∈ lw_all := lw_g (lw_at lw_m5 48 rfl) rfl
theorem q1099 : (Jvm.Cond.soleField "LastWordWoodModel" "lineFrom") ∈ lw_all := lw_g (lw_at lw_m5 49 rfl) rfl
theorem q1100 : (Jvm.Cond.laysFinal "LastWordWoodModel" "LastWordWoodModel" "lineTo" "[I") ∈ lw_all := lw_g (lw_at lw_m5 50 rfl) rfl
theorem q1101 : (Jvm.Cond.soleField "LastWordWoodModel" "lineTo") ∈ lw_all := lw_g (lw_at lw_m5 51 rfl) rfl
theorem q1102 : (Jvm.Cond.laysFinal "LastWordWoodModel" "LastWordWoodModel" "op" "[I") ∈ lw_all := lw_g (lw_at lw_m5 52 rfl) rfl
theorem q1103 : (Jvm.Cond.soleField "LastWordWoodModel" "op") ∈ lw_all := lw_g (lw_at lw_m5 53 rfl) rfl
theorem q1104 : (Jvm.Cond.laysFinal "LastWordWoodModel" "LastWordWoodModel" "arg" "[I") ∈ lw_all := lw_g (lw_at lw_m5 54 rfl) rfl
theorem q1105 : (Jvm.Cond.soleField "LastWordWoodModel" "arg") ∈ lw_all := lw_g (lw_at lw_m5 55 rfl) rfl
theorem q1106 : (Jvm.Cond.lays "LastWordWoodModel" "LastWordWoodModel" "codes" "I") ∈ lw_all := lw_g (lw_at lw_m5 56 rfl) rfl
theorem q1107 : (Jvm.Cond.soleField "LastWordWoodModel" "codes") ∈ lw_all := lw_g (lw_at lw_m5 57 rfl) rfl
theorem q1108 : (Jvm.Cond.lays "LastWordWoodModel" "LastWordWoodModel" "open" "I") ∈ lw_all := lw_g (lw_at lw_m5 58 rfl) rfl
theorem q1109 : (Jvm.Cond.soleField "LastWordWoodModel" "open") ∈ lw_all := lw_g (lw_at lw_m5 59 rfl) rfl
theorem q1110 : (Jvm.Cond.laysFinal "LastWordWoodModel" "LastWordWoodModel" "pending" "[I") ∈ lw_all := lw_g (lw_at lw_m5 60 rfl) rfl
theorem q1111 : (Jvm.Cond.soleField "LastWordWoodModel" "pending") ∈ lw_all := lw_g (lw_at lw_m5 61 rfl) rfl
theorem q1112 : (Jvm.Cond.lays "LastWordWoodModel" "LastWordWoodModel" "pendings" "I") ∈ lw_all := lw_g (lw_at lw_m5 62 rfl) rfl
theorem q1113 : (Jvm.Cond.soleField "LastWordWoodModel" "pendings") ∈ lw_all := lw_g (lw_at lw_m5 63 rfl) rfl
theorem q1114 : (Jvm.Cond.lays "LastWordWoodModel" "LastWordWoodModel" "readFault" "I") ∈ lw_all := lw_g (lw_at lw_m5 64 rfl) rfl
theorem q1115 : (Jvm.Cond.soleField "LastWordWoodModel" "readFault") ∈ lw_all := lw_g (lw_at lw_m5 65 rfl) rfl
theorem q1116 : (Jvm.Cond.lays "LastWordWoodModel" "LastWordWoodModel" "readPlace" "I") ∈ lw_all := lw_g (lw_at lw_m5 66 rfl) rfl
theorem q1117 : (Jvm.Cond.soleField "LastWordWoodModel" "readPlace") ∈ lw_all := lw_g (lw_at lw_m5 67 rfl) rfl
theorem q1118 : (Jvm.Cond.lays "LastWordWoodModel" "LastWordWoodModel" "faultKind" "I") ∈ lw_all := lw_g (lw_at lw_m5 68 rfl) rfl
theorem q1119 : (Jvm.Cond.soleField "LastWordWoodModel" "faultKind") ∈ lw_all := lw_g (lw_at lw_m5 69 rfl) rfl
theorem q1120 : (Jvm.Cond.lays "LastWordWoodModel" "LastWordWoodModel" "faultPlace" "I") ∈ lw_all := lw_g (lw_at lw_m5 70 rfl) rfl
theorem q1121 : (Jvm.Cond.soleField "LastWordWoodModel" "faultPlace") ∈ lw_all := lw_g (lw_at lw_m5 71 rfl) rfl
theorem q1122 : (Jvm.Cond.laysFinal "LastWordWoodModel" "LastWordWoodModel" "asked" "[I") ∈ lw_all := lw_g (lw_at lw_m5 72 rfl) rfl
theorem q1123 : (Jvm.Cond.soleField "LastWordWoodModel" "asked") ∈ lw_all := lw_g (lw_at lw_m5 73 rfl) rfl
theorem q1124 : (Jvm.Cond.laysFinal "LastWordWoodModel" "LastWordWoodModel" "stack" "[I") ∈ lw_all := lw_g (lw_at lw_m5 74 rfl) rfl
theorem q1125 : (Jvm.Cond.soleField "LastWordWoodModel" "stack") ∈ lw_all := lw_g (lw_at lw_m5 75 rfl) rfl
theorem q1126 : (Jvm.Cond.laysFinal "LastWordWoodModel" "LastWordWoodModel" "sizeOf" "[I") ∈ lw_all := lw_g (lw_at lw_m5 76 rfl) rfl
theorem q1127 : (Jvm.Cond.soleField "LastWordWoodModel" "sizeOf") ∈ lw_all := lw_g (lw_at lw_m5 77 rfl) rfl
theorem q1128 : (Jvm.Cond.laysFinal "LastWordWoodModel" "LastWordWoodModel" "grown" "[I") ∈ lw_all := lw_g (lw_at lw_m5 78 rfl) rfl
theorem q1129 : (Jvm.Cond.soleField "LastWordWoodModel" "grown") ∈ lw_all := lw_g (lw_at lw_m5 79 rfl) rfl
theorem q1130 : (Jvm.Cond.laysFinal "LastWordWoodModel" "LastWordWoodModel" "lacking" "[I") ∈ lw_all := lw_g (lw_at lw_m5 80 rfl) rfl
theorem q1131 : (Jvm.Cond.soleField "LastWordWoodModel" "lacking") ∈ lw_all := lw_g (lw_at lw_m5 81 rfl) rfl
theorem q1132 : (Jvm.Cond.laysFinal "LastWordWoodModel" "LastWordWoodModel" "placeOf" "[I") ∈ lw_all := lw_g (lw_at lw_m5 82 rfl) rfl
theorem q1133 : (Jvm.Cond.soleField "LastWordWoodModel" "placeOf") ∈ lw_all := lw_g (lw_at lw_m5 83 rfl) rfl
theorem q1134 : (Jvm.Cond.lays "LastWordWoodModel" "LastWordWoodModel" "isTaking" "Z") ∈ lw_all := lw_g (lw_at lw_m5 84 rfl) rfl
theorem q1135 : (Jvm.Cond.soleField "LastWordWoodModel" "isTaking") ∈ lw_all := lw_g (lw_at lw_m5 85 rfl) rfl
theorem q1136 : (Jvm.Cond.lays "LastWordWoodModel" "LastWordWoodModel" "hasImage" "Z") ∈ lw_all := lw_g (lw_at lw_m5 86 rfl) rfl
theorem q1137 : (Jvm.Cond.soleField "LastWordWoodModel" "hasImage") ∈ lw_all := lw_g (lw_at lw_m5 87 rfl) rfl
theorem q1138 : (Jvm.Cond.lays "LastWordWoodModel" "LastWordWoodModel" "keptAt" "I") ∈ lw_all := lw_g (lw_at lw_m5 88 rfl) rfl
theorem q1139 : (Jvm.Cond.soleField "LastWordWoodModel" "keptAt") ∈ lw_all := lw_g (lw_at lw_m5 89 rfl) rfl
theorem q1140 : (Jvm.Cond.laysFinal "LastWordWoodModel" "LastWordWoodModel" "images" "[I") ∈ lw_all := lw_g (lw_at lw_m5 90 rfl) rfl
theorem q1141 : (Jvm.Cond.soleField "LastWordWoodModel" "images") ∈ lw_all := lw_g (lw_at lw_m5 91 rfl) rfl
theorem q1142 : (Jvm.Cond.superclass "LastWordWoodModel" "java/lang/Object") ∈ lw_all := lw_g (lw_at lw_m5 92 rfl) rfl
theorem q1144 : (Jvm.Cond.instanceMethod ({ cls := "LastWordWoodModel", name := "undo", desc := "()Z" } : Jvm.MethodName)) ∈ lw_all := lw_g (lw_at lw_m5 94 rfl) rfl
theorem q1145 : (Jvm.Cond.selects "LastWordWoodModel" ({ cls := "LastWordWoodModel", name := "undo", desc := "()Z" } : Jvm.MethodName) ({ cls := "LastWordWoodModel", name := "undo", desc := "()Z" } : Jvm.MethodName)) ∈ lw_all := lw_g (lw_at lw_m5 95 rfl) rfl
theorem q1146 : (Jvm.Cond.code ({ cls := "LastWordWoodModel", name := "undo", desc := "()Z" } : Jvm.MethodName) prog_14_method_7_code (2 : Nat) (Option.some Jvm.ClassFile.FieldType.boolean)) ∈ lw_all := lw_g (lw_at lw_m5 96 rfl) rfl
theorem q1148 : (Jvm.Cond.instanceMethod ({ cls := "LastWordWoodModel", name := "state", desc := "(I)I" } : Jvm.MethodName)) ∈ lw_all := lw_g (lw_at lw_m5 98 rfl) rfl
theorem q1149 : (Jvm.Cond.selects "LastWordWoodModel" ({ cls := "LastWordWoodModel", name := "state", desc := "(I)I" } : Jvm.MethodName) ({ cls := "LastWordWoodModel", name := "state", desc := "(I)I" } : Jvm.MethodName)) ∈ lw_all := lw_g (lw_at lw_m5 99 rfl) rfl
theorem q1150 : (Jvm.Cond.code ({ cls := "LastWordWoodModel", name := "state", desc := "(I)I" } : Jvm.MethodName) prog_14_method_8_code (3 : Nat) (Option.some Jvm.ClassFile.FieldType.int)) ∈ lw_all := lw_g (lw_at lw_m5 100 rfl) rfl
theorem q1152 : (Jvm.Cond.instanceMethod ({ cls := "LastWordWoodModel", name := "wood", desc := "(II)Z" } : Jvm.MethodName)) ∈ lw_all := lw_g (lw_at lw_m5 102 rfl) rfl
theorem q1153 : (Jvm.Cond.selects "LastWordWoodModel" ({ cls := "LastWordWoodModel", name := "wood", desc := "(II)Z" } : Jvm.MethodName) ({ cls := "LastWordWoodModel", name := "wood", desc := "(II)Z" } : Jvm.MethodName)) ∈ lw_all := lw_g (lw_at lw_m5 103 rfl) rfl
theorem q1154 : (Jvm.Cond.code ({ cls := "LastWordWoodModel", name := "wood", desc := "(II)Z" } : Jvm.MethodName) prog_14_method_14_code (4 : Nat) (Option.some Jvm.ClassFile.FieldType.boolean)) ∈ lw_all := lw_g (lw_at lw_m5 104 rfl) rfl
theorem q1155 : (Jvm.Cond.methodLink "LastWordWoodModel" (107 : Nat) ({ cls := "LastWordWoodModel", name := "isIn", desc := "(III)Z" } : Jvm.MethodName)) ∈ lw_all := lw_g (lw_at lw_m5 105 rfl) rfl
theorem q1156 : (Jvm.Cond.privateMethod ({ cls := "LastWordWoodModel", name := "isIn", desc := "(III)Z" } : Jvm.MethodName)) ∈ lw_tbl := lw_at lw_m5 106 rfl
theorem q1157 : (Jvm.Cond.instanceMethod ({ cls := "LastWordWoodModel", name := "isIn", desc := "(III)Z" } : Jvm.MethodName)) ∈ lw_all := lw_g (lw_at lw_m5 107 rfl) rfl
theorem q1158 : (Jvm.Cond.code ({ cls := "LastWordWoodModel", name := "isIn", desc := "(III)Z" } : Jvm.MethodName) prog_14_method_3_code (4 : Nat) (Option.some Jvm.ClassFile.FieldType.boolean)) ∈ lw_all := lw_g (lw_at lw_m5 108 rfl) rfl
theorem q1160 : (Jvm.Cond.instanceMethod ({ cls := "LastWordWoodModel", name := "damp", desc := "(II)Z" } : Jvm.MethodName)) ∈ lw_all := lw_g (lw_at lw_m5 110 rfl) rfl
theorem q1161 : (Jvm.Cond.selects "LastWordWoodModel" ({ cls := "LastWordWoodModel", name := "damp", desc := "(II)Z" } : Jvm.MethodName) ({ cls := "LastWordWoodModel", name := "damp", desc := "(II)Z" } : Jvm.MethodName)) ∈ lw_all := lw_g (lw_at lw_m5 111 rfl) rfl
theorem q1162 : (Jvm.Cond.code ({ cls := "LastWordWoodModel", name := "damp", desc := "(II)Z" } : Jvm.MethodName) prog_14_method_15_code (3 : Nat) (Option.some Jvm.ClassFile.FieldType.boolean)) ∈ lw_all := lw_g (lw_at lw_m5 112 rfl) rfl
theorem q1163 : (Jvm.Cond.methodLink "LastWordWoodModel" (129 : Nat) ({ cls := "LastWordWoodModel", name := "isCell", desc := "(I)Z" } : Jvm.MethodName)) ∈ lw_all := lw_g (lw_at lw_m5 113 rfl) rfl
theorem q1164 : (Jvm.Cond.privateMethod ({ cls := "LastWordWoodModel", name := "isCell", desc := "(I)Z" } : Jvm.MethodName)) ∈ lw_tbl := lw_at lw_m5 114 rfl
theorem q1165 : (Jvm.Cond.instanceMethod ({ cls := "LastWordWoodModel", name := "isCell", desc := "(I)Z" } : Jvm.MethodName)) ∈ lw_all := lw_g (lw_at lw_m5 115 rfl) rfl
theorem q1166 : (Jvm.Cond.code ({ cls := "LastWordWoodModel", name := "isCell", desc := "(I)Z" } : Jvm.MethodName) prog_14_method_10_code (2 : Nat) (Option.some Jvm.ClassFile.FieldType.boolean)) ∈ lw_all := lw_g (lw_at lw_m5 116 rfl) rfl
theorem q1168 : (Jvm.Cond.instanceMethod ({ cls := "LastWordWoodModel", name := "word", desc := "(III)I" } : Jvm.MethodName)) ∈ lw_all := lw_g (lw_at lw_m5 118 rfl) rfl
theorem q1169 : (Jvm.Cond.selects "LastWordWoodModel" ({ cls := "LastWordWoodModel", name := "word", desc := "(III)I" } : Jvm.MethodName) ({ cls := "LastWordWoodModel", name := "word", desc := "(III)I" } : Jvm.MethodName)) ∈ lw_all := lw_g (lw_at lw_m5 119 rfl) rfl
theorem q1170 : (Jvm.Cond.code ({ cls := "LastWordWoodModel", name := "word", desc := "(III)I" } : Jvm.MethodName) prog_14_method_16_code (4 : Nat) (Option.some Jvm.ClassFile.FieldType.int)) ∈ lw_all := lw_g (lw_at lw_m5 120 rfl) rfl
theorem q1172 : (Jvm.Cond.instanceMethod ({ cls := "LastWordWoodModel", name := "person", desc := "(I)I" } : Jvm.MethodName)) ∈ lw_all := lw_g (lw_at lw_m5 122 rfl) rfl
theorem q1173 : (Jvm.Cond.selects "LastWordWoodModel" ({ cls := "LastWordWoodModel", name := "person", desc := "(I)I" } : Jvm.MethodName) ({ cls := "LastWordWoodModel", name := "person", desc := "(I)I" } : Jvm.MethodName)) ∈ lw_all := lw_g (lw_at lw_m5 123 rfl) rfl
theorem q1174 : (Jvm.Cond.code ({ cls := "LastWordWoodModel", name := "person", desc := "(I)I" } : Jvm.MethodName) prog_14_method_17_code (2 : Nat) (Option.some Jvm.ClassFile.FieldType.int)) ∈ lw_all := lw_g (lw_at lw_m5 124 rfl) rfl
theorem q1176 : (Jvm.Cond.instanceMethod ({ cls := "LastWordWoodModel", name := "set", desc := "(II)Z" } : Jvm.MethodName)) ∈ lw_all := lw_g (lw_at lw_m5 126 rfl) rfl
theorem q1177 : (Jvm.Cond.selects "LastWordWoodModel" ({ cls := "LastWordWoodModel", name := "set", desc := "(II)Z" } : Jvm.MethodName) ({ cls := "LastWordWoodModel", name := "set", desc := "(II)Z" } : Jvm.MethodName)) ∈ lw_all := lw_g (lw_at lw_m5 127 rfl) rfl
theorem q1178 : (Jvm.Cond.code ({ cls := "LastWordWoodModel", name := "set", desc := "(II)Z" } : Jvm.MethodName) prog_14_method_18_code (3 : Nat) (Option.some Jvm.ClassFile.FieldType.boolean)) ∈ lw_all := lw_g (lw_at lw_m5 128 rfl) rfl
theorem q1180 : (Jvm.Cond.instanceMethod ({ cls := "LastWordWoodModel", name := "go", desc := "(III)Z" } : Jvm.MethodName)) ∈ lw_all := lw_g (lw_at lw_m5 130 rfl) rfl
theorem q1181 : (Jvm.Cond.selects "LastWordWoodModel" ({ cls := "LastWordWoodModel", name := "go", desc := "(III)Z" } : Jvm.MethodName) ({ cls := "LastWordWoodModel", name := "go", desc := "(III)Z" } : Jvm.MethodName)) ∈ lw_all := lw_g (lw_at lw_m5 131 rfl) rfl
theorem q1182 : (Jvm.Cond.code ({ cls := "LastWordWoodModel", name := "go", desc := "(III)Z" } : Jvm.MethodName) prog_14_method_19_code (6 : Nat) (Option.some Jvm.ClassFile.FieldType.boolean)) ∈ lw_all := lw_g (lw_at lw_m5 132 rfl) rfl
theorem q1183 : (Jvm.Cond.methodLink "LastWordWoodModel" (133 : Nat) ({ cls := "LastWordWoodModel", name := "isPerson", desc := "(I)Z" } : Jvm.MethodName)) ∈ lw_all := lw_g (lw_at lw_m5 133 rfl) rfl
theorem q1184 : (Jvm.Cond.privateMethod ({ cls := "LastWordWoodModel", name := "isPerson", desc := "(I)Z" } : Jvm.MethodName)) ∈ lw_tbl := lw_at lw_m5 134 rfl
theorem q1185 : (Jvm.Cond.instanceMethod ({ cls := "LastWordWoodModel", name := "isPerson", desc := "(I)Z" } : Jvm.MethodName)) ∈ lw_all := lw_g (lw_at lw_m5 135 rfl) rfl
theorem q1186 : (Jvm.Cond.code ({ cls := "LastWordWoodModel", name := "isPerson", desc := "(I)Z" } : Jvm.MethodName) prog_14_method_12_code (2 : Nat) (Option.some Jvm.ClassFile.FieldType.boolean)) ∈ lw_all := lw_g (lw_at lw_m5 136 rfl) rfl
theorem q1187 : (Jvm.Cond.methodLink "LastWordWoodModel" (136 : Nat) ({ cls := "LastWordWoodModel", name := "keepsAhead", desc := "()V" } : Jvm.MethodName)) ∈ lw_all := lw_g (lw_at lw_m5 137 rfl) rfl
theorem q1188 : (Jvm.Cond.privateMethod ({ cls := "LastWordWoodModel", name := "keepsAhead", desc := "()V" } : Jvm.MethodName)) ∈ lw_tbl := lw_at lw_m5 138 rfl
theorem q1189 : (Jvm.Cond.instanceMethod ({ cls := "LastWordWoodModel", name := "keepsAhead", desc := "()V" } : Jvm.MethodName)) ∈ lw_all := lw_g (lw_at lw_m5 139 rfl) rfl
theorem q1190 : (Jvm.Cond.code ({ cls := "LastWordWoodModel", name := "keepsAhead", desc := "()V" } : Jvm.MethodName) prog_14_method_6_code (2 : Nat) (Option.none : Option Jvm.ClassFile.FieldType)) ∈ lw_all := lw_g (lw_at lw_m5 140 rfl) rfl
theorem q1192 : (Jvm.Cond.instanceMethod ({ cls := "LastWordWoodModel", name := "breaks", desc := "(II)Z" } : Jvm.MethodName)) ∈ lw_all := lw_g (lw_at lw_m5 142 rfl) rfl
theorem q1193 : (Jvm.Cond.selects "LastWordWoodModel" ({ cls := "LastWordWoodModel", name := "breaks", desc := "(II)Z" } : Jvm.MethodName) ({ cls := "LastWordWoodModel", name := "breaks", desc := "(II)Z" } : Jvm.MethodName)) ∈ lw_all := lw_g (lw_at lw_m5 143 rfl) rfl
theorem q1194 : (Jvm.Cond.code ({ cls := "LastWordWoodModel", name := "breaks", desc := "(II)Z" } : Jvm.MethodName) prog_14_method_21_code (4 : Nat) (Option.some Jvm.ClassFile.FieldType.boolean)) ∈ lw_all := lw_g (lw_at lw_m5 144 rfl) rfl
theorem q1195 : (Jvm.Cond.methodLink "LastWordWoodModel" (139 : Nat) ({ cls := "LastWordWoodModel", name := "isWordNumber", desc := "(I)Z" } : Jvm.MethodName)) ∈ lw_all := lw_g (lw_at lw_m5 145 rfl) rfl
theorem q1196 : (Jvm.Cond.privateMethod ({ cls := "LastWordWoodModel", name := "isWordNumber", desc := "(I)Z" } : Jvm.MethodName)) ∈ lw_tbl := lw_at lw_m5 146 rfl
theorem q1197 : (Jvm.Cond.instanceMethod ({ cls := "LastWordWoodModel", name := "isWordNumber", desc := "(I)Z" } : Jvm.MethodName)) ∈ lw_all := lw_g (lw_at lw_m5 147 rfl) rfl
theorem q1198 : (Jvm.Cond.code ({ cls := "LastWordWoodModel", name := "isWordNumber", desc := "(I)Z" } : Jvm.MethodName) prog_14_method_11_code (2 : Nat) (Option.some Jvm.ClassFile.FieldType.boolean)) ∈ lw_all := lw_g (lw_at lw_m5 148 rfl) rfl
theorem q1199 : (Jvm.Cond.methodLink "LastWordWoodModel" (142 : Nat) ({ cls := "LastWordWoodModel", name := "notes", desc := "(III)V" } : Jvm.MethodName)) ∈ lw_all := lw_g (lw_at lw_m5 149 rfl) rfl
theorem q1200 : (Jvm.Cond.privateMethod ({ cls := "LastWordWoodModel", name := "notes", desc := "(III)V" } : Jvm.MethodName)) ∈ lw_tbl := lw_at lw_m5 150 rfl
theorem q1201 : (Jvm.Cond.instanceMethod ({ cls := "LastWordWoodModel", name := "notes", desc := "(III)V" } : Jvm.MethodName)) ∈ lw_all := lw_g (lw_at lw_m5 151 rfl) rfl
theorem q1202 : (Jvm.Cond.code ({ cls := "LastWordWoodModel", name := "notes", desc := "(III)V" } : Jvm.MethodName) prog_14_method_20_code (5 : Nat) (Option.none : Option Jvm.ClassFile.FieldType)) ∈ lw_all := lw_g (lw_at lw_m5 152 rfl) rfl
theorem q1204 : (Jvm.Cond.instanceMethod ({ cls := "LastWordWoodModel", name := "act", desc := "(II)Z" } : Jvm.MethodName)) ∈ lw_all := lw_g (lw_at lw_m5 154 rfl) rfl
theorem q1205 : (Jvm.Cond.selects "LastWordWoodModel" ({ cls := "LastWordWoodModel", name := "act", desc := "(II)Z" } : Jvm.MethodName) ({ cls := "LastWordWoodModel", name := "act", desc := "(II)Z" } : Jvm.MethodName)) ∈ lw_all := lw_g (lw_at lw_m5 155 rfl) rfl
theorem q1206 : (Jvm.Cond.code ({ cls := "LastWordWoodModel", name := "act", desc := "(II)Z" } : Jvm.MethodName) prog_14_method_24_code (4 : Nat) (Option.some Jvm.ClassFile.FieldType.boolean)) ∈ lw_all := lw_g (lw_at lw_m5 156 rfl) rfl
theorem q1207 : (Jvm.Cond.methodLink "LastWordWoodModel" (146 : Nat) ({ cls := "LastWordWoodModel", name := "picks", desc := "(II)V" } : Jvm.MethodName)) ∈ lw_all := lw_g (lw_at lw_m5 157 rfl) rfl
theorem q1208 : (Jvm.Cond.privateMethod ({ cls := "LastWordWoodModel", name := "picks", desc := "(II)V" } : Jvm.MethodName)) ∈ lw_tbl := lw_at lw_m5 158 rfl
theorem q1209 : (Jvm.Cond.instanceMethod ({ cls := "LastWordWoodModel", name := "picks", desc := "(II)V" } : Jvm.MethodName)) ∈ lw_all := lw_g (lw_at lw_m5 159 rfl) rfl
theorem q1210 : (Jvm.Cond.code ({ cls := "LastWordWoodModel", name := "picks", desc := "(II)V" } : Jvm.MethodName) prog_14_method_22_code (4 : Nat) (Option.none : Option Jvm.ClassFile.FieldType)) ∈ lw_all := lw_g (lw_at lw_m5 160 rfl) rfl
theorem q1211 : (Jvm.Cond.methodLink "LastWordWoodModel" (150 : Nat) ({ cls := "LastWordWoodModel", name := "eats", desc := "(II)V" } : Jvm.MethodName)) ∈ lw_all := lw_g (lw_at lw_m5 161 rfl) rfl
theorem q1212 : (Jvm.Cond.privateMethod ({ cls := "LastWordWoodModel", name := "eats", desc := "(II)V" } : Jvm.MethodName)) ∈ lw_tbl := lw_at lw_m5 162 rfl
theorem q1213 : (Jvm.Cond.instanceMethod ({ cls := "LastWordWoodModel", name := "eats", desc := "(II)V" } : Jvm.MethodName)) ∈ lw_all := lw_g (lw_at lw_m5 163 rfl) rfl
theorem q1214 : (Jvm.Cond.code ({ cls := "LastWordWoodModel", name := "eats", desc := "(II)V" } : Jvm.MethodName) prog_14_method_23_code (5 : Nat) (Option.none : Option Jvm.ClassFile.FieldType)) ∈ lw_all := lw_g (lw_at lw_m5 164 rfl) rfl
theorem q1216 : (Jvm.Cond.instanceMethod ({ cls := "LastWordWoodModel", name := "feed", desc := "(IIIII)I" } : Jvm.MethodName)) ∈ lw_all := lw_g (lw_at lw_m5 166 rfl) rfl
theorem q1217 : (Jvm.Cond.selects "LastWordWoodModel" ({ cls := "LastWordWoodModel", name := "feed", desc := "(IIIII)I" } : Jvm.MethodName) ({ cls := "LastWordWoodModel", name := "feed", desc := "(IIIII)I" } : Jvm.MethodName)) ∈ lw_all := lw_g (lw_at lw_m5 167 rfl) rfl
theorem q1218 : (Jvm.Cond.code ({ cls := "LastWordWoodModel", name := "feed", desc := "(IIIII)I" } : Jvm.MethodName) prog_14_method_26_code (6 : Nat) (Option.some Jvm.ClassFile.FieldType.int)) ∈ lw_all := lw_g (lw_at lw_m5 168 rfl) rfl
theorem q1219 : (Jvm.Cond.methodLink "LastWordWoodModel" (156 : Nat) ({ cls := "LastWordWoodModel", name := "types", desc := "(I)V" } : Jvm.MethodName)) ∈ lw_all := lw_g (lw_at lw_m5 169 rfl) rfl
theorem q1220 : (Jvm.Cond.privateMethod ({ cls := "LastWordWoodModel", name := "types", desc := "(I)V" } : Jvm.MethodName)) ∈ lw_tbl := lw_at lw_m5 170 rfl
theorem q1221 : (Jvm.Cond.instanceMethod ({ cls := "LastWordWoodModel", name := "types", desc := "(I)V" } : Jvm.MethodName)) ∈ lw_all := lw_g (lw_at lw_m5 171 rfl) rfl
theorem q1222 : (Jvm.Cond.code ({ cls := "LastWordWoodModel", name := "types", desc := "(I)V" } : Jvm.MethodName) prog_14_method_25_code (3 : Nat) (Option.none : Option Jvm.ClassFile.FieldType)) ∈ lw_all := lw_g (lw_at lw_m5 172 rfl) rfl
theorem q1224 : (Jvm.Cond.instanceMethod ({ cls := "LastWordWoodModel", name := "end", desc := "(I)Z" } : Jvm.MethodName)) ∈ lw_all := lw_g (lw_at lw_m5 174 rfl) rfl
theorem q1225 : (Jvm.Cond.selects "LastWordWoodModel" ({ cls := "LastWordWoodModel", name := "end", desc := "(I)Z" } : Jvm.MethodName) ({ cls := "LastWordWoodModel", name := "end", desc := "(I)Z" } : Jvm.MethodName)) ∈ lw_all := lw_g (lw_at lw_m5 175 rfl) rfl
theorem q1226 : (Jvm.Cond.code ({ cls := "LastWordWoodModel", name := "end", desc := "(I)Z" } : Jvm.MethodName) prog_14_method_27_code (2 : Nat) (Option.some Jvm.ClassFile.FieldType.boolean)) ∈ lw_all := lw_g (lw_at lw_m5 176 rfl) rfl
theorem q1228 : (Jvm.Cond.instanceMethod ({ cls := "LastWordWoodModel", name := "text", desc := "()I" } : Jvm.MethodName)) ∈ lw_all := lw_g (lw_at lw_m5 178 rfl) rfl
theorem q1229 : (Jvm.Cond.selects "LastWordWoodModel" ({ cls := "LastWordWoodModel", name := "text", desc := "()I" } : Jvm.MethodName) ({ cls := "LastWordWoodModel", name := "text", desc := "()I" } : Jvm.MethodName)) ∈ lw_all := lw_g (lw_at lw_m5 179 rfl) rfl
theorem q1230 : (Jvm.Cond.code ({ cls := "LastWordWoodModel", name := "text", desc := "()I" } : Jvm.MethodName) prog_14_method_46_code (3 : Nat) (Option.some Jvm.ClassFile.FieldType.int)) ∈ lw_all := lw_g (lw_at lw_m5 180 rfl) rfl
theorem q1231 : (Jvm.Cond.methodLink "LastWordWoodModel" (203 : Nat) ({ cls := "LastWordWoodModel", name := "reads", desc := "()V" } : Jvm.MethodName)) ∈ lw_all := lw_g (lw_at lw_m5 181 rfl) rfl
theorem q1232 : (Jvm.Cond.privateMethod ({ cls := "LastWordWoodModel", name := "reads", desc := "()V" } : Jvm.MethodName)) ∈ lw_tbl := lw_at lw_m5 182 rfl
theorem q1233 : (Jvm.Cond.instanceMethod ({ cls := "LastWordWoodModel", name := "reads", desc := "()V" } : Jvm.MethodName)) ∈ lw_all := lw_g (lw_at lw_m5 183 rfl) rfl
theorem q1234 : (Jvm.Cond.code ({ cls := "LastWordWoodModel", name := "reads", desc := "()V" } : Jvm.MethodName) prog_14_method_33_code (2 : Nat) (Option.none : Option Jvm.ClassFile.FieldType)) ∈ lw_all := lw_g (lw_at lw_m5 184 rfl) rfl
theorem q1235 : (Jvm.Cond.methodLink "LastWordWoodModel" (163 : Nat) ({ cls := "LastWordWoodModel", name := "raw", desc := "(I)I" } : Jvm.MethodName)) ∈ lw_all := lw_g (lw_at lw_m5 185 rfl) rfl
theorem q1236 : (Jvm.Cond.privateMethod ({ cls := "LastWordWoodModel", name := "raw", desc := "(I)I" } : Jvm.MethodName)) ∈ lw_tbl := lw_at lw_m5 186 rfl
theorem q1237 : (Jvm.Cond.instanceMethod ({ cls := "LastWordWoodModel", name := "raw", desc := "(I)I" } : Jvm.MethodName)) ∈ lw_all := lw_g (lw_at lw_m5 187 rfl) rfl
theorem q1238 : (Jvm.Cond.code ({ cls := "LastWordWoodModel", name := "raw", desc := "(I)I" } : Jvm.MethodName) prog_14_method_28_code (2 : Nat) (Option.some Jvm.ClassFile.FieldType.int)) ∈ lw_all := lw_g (lw_at lw_m5 188 rfl) rfl
theorem q1239 : (Jvm.Cond.methodLink "LastWordWoodModel" (175 : Nat) ({ cls := "LastWordWoodModel", name := "isLetter", desc := "(I)Z" } : Jvm.MethodName)) ∈ lw_all := lw_g (lw_at lw_m5 189 rfl) rfl
theorem q1240 : (Jvm.Cond.privateMethod ({ cls := "LastWordWoodModel", name := "isLetter", desc := "(I)Z" } : Jvm.MethodName)) ∈ lw_tbl := lw_at lw_m5 190 rfl
theorem q1241 : (Jvm.Cond.instanceMethod ({ cls := "LastWordWoodModel", name := "isLetter", desc := "(I)Z" } : Jvm.MethodName)) ∈ lw_all := lw_g (lw_at lw_m5 191 rfl) rfl
theorem q1242 : (Jvm.Cond.code ({ cls := "LastWordWoodModel", name := "isLetter", desc := "(I)Z" } : Jvm.MethodName) prog_14_method_29_code (2 : Nat) (Option.some Jvm.ClassFile.FieldType.boolean)) ∈ lw_all := lw_g (lw_at lw_m5 192 rfl) rfl
theorem q1243 : (Jvm.Cond.methodLink "LastWordWoodModel" (178 : Nat) ({ cls := "LastWordWoodModel", name := "wordAt", desc := "(II)I" } : Jvm.MethodName)) ∈ lw_all := lw_g (lw_at lw_m5 193 rfl) rfl
theorem q1244 : (Jvm.Cond.privateMethod ({ cls := "LastWordWoodModel", name := "wordAt", desc := "(II)I" } : Jvm.MethodName)) ∈ lw_tbl := lw_at lw_m5 194 rfl
theorem q1245 : (Jvm.Cond.instanceMethod ({ cls := "LastWordWoodModel", name := "wordAt", desc := "(II)I" } : Jvm.MethodName)) ∈ lw_all := lw_g (lw_at lw_m5 195 rfl) rfl
theorem q1246 : (Jvm.Cond.code ({ cls := "LastWordWoodModel", name := "wordAt", desc := "(II)I" } : Jvm.MethodName) prog_14_method_32_code (6 : Nat) (Option.some Jvm.ClassFile.FieldType.int)) ∈ lw_all := lw_g (lw_at lw_m5 196 rfl) rfl
theorem q1247 : (Jvm.Cond.methodLink "LastWordWoodModel" (182 : Nat) ({ cls := "LastWordWoodModel", name := "isDigit", desc := "(I)Z" } : Jvm.MethodName)) ∈ lw_all := lw_g (lw_at lw_m5 197 rfl) rfl
theorem q1248 : (Jvm.Cond.privateMethod ({ cls := "LastWordWoodModel", name := "isDigit", desc := "(I)Z" } : Jvm.MethodName)) ∈ lw_tbl := lw_at lw_m5 198 rfl
theorem q1249 : (Jvm.Cond.instanceMethod ({ cls := "LastWordWoodModel", name := "isDigit", desc := "(I)Z" } : Jvm.MethodName)) ∈ lw_all := lw_g (lw_at lw_m5 199 rfl) rfl
theorem q1250 : (Jvm.Cond.code ({ cls := "LastWordWoodModel", name := "isDigit", desc := "(I)Z" } : Jvm.MethodName) prog_14_method_30_code (2 : Nat) (Option.some Jvm.ClassFile.FieldType.boolean)) ∈ lw_all := lw_g (lw_at lw_m5 200 rfl) rfl
theorem q1251 : (Jvm.Cond.methodLink "LastWordWoodModel" (185 : Nat) ({ cls := "LastWordWoodModel", name := "isMarkSign", desc := "(I)Z" } : Jvm.MethodName)) ∈ lw_all := lw_g (lw_at lw_m5 201 rfl) rfl
theorem q1252 : (Jvm.Cond.privateMethod ({ cls := "LastWordWoodModel", name := "isMarkSign", desc := "(I)Z" } : Jvm.MethodName)) ∈ lw_tbl := lw_at lw_m5 202 rfl
theorem q1253 : (Jvm.Cond.instanceMethod ({ cls := "LastWordWoodModel", name := "isMarkSign", desc := "(I)Z" } : Jvm.MethodName)) ∈ lw_all := lw_g (lw_at lw_m5 203 rfl) rfl
theorem q1254 : (Jvm.Cond.code ({ cls := "LastWordWoodModel", name := "isMarkSign", desc := "(I)Z" } : Jvm.MethodName) prog_14_method_31_code (2 : Nat) (Option.some Jvm.ClassFile.FieldType.boolean)) ∈ lw_all := lw_g (lw_at lw_m5 204 rfl) rfl
theorem q1255 : (Jvm.Cond.methodLink "LastWordWoodModel" (243 : Nat) ({ cls := "LastWordWoodModel", name := "readText", desc := "()I" } : Jvm.MethodName)) ∈ lw_all := lw_g (lw_at lw_m5 205 rfl) rfl
theorem q1256 : (Jvm.Cond.privateMethod ({ cls := "LastWordWoodModel", name := "readText", desc := "()I" } : Jvm.MethodName)) ∈ lw_tbl := lw_at lw_m5 206 rfl
theorem q1257 : (Jvm.Cond.instanceMethod ({ cls := "LastWordWoodModel", name := "readText", desc := "()I" } : Jvm.MethodName)) ∈ lw_all := lw_g (lw_at lw_m5 207 rfl) rfl
theorem q1258 : (Jvm.Cond.code ({ cls := "LastWordWoodModel", name := "readText", desc := "()I" } : Jvm.MethodName) prog_14_method_45_code (3 : Nat) (Option.some Jvm.ClassFile.FieldType.int)) ∈ lw_all := lw_g (lw_at lw_m5 208 rfl) rfl
theorem q1259 : (Jvm.Cond.methodLink "LastWordWoodModel" (225 : Nat) ({ cls := "LastWordWoodModel", name := "isWord", desc := "(I)Z" } : Jvm.MethodName)) ∈ lw_all := lw_g (lw_at lw_m5 209 rfl) rfl
theorem q1260 : (Jvm.Cond.privateMethod ({ cls := "LastWordWoodModel", name := "isWord", desc := "(I)Z" } : Jvm.MethodName)) ∈ lw_tbl := lw_at lw_m5 210 rfl
theorem q1261 : (Jvm.Cond.instanceMethod ({ cls := "LastWordWoodModel", name := "isWord", desc := "(I)Z" } : Jvm.MethodName)) ∈ lw_all := lw_g (lw_at lw_m5 211 rfl) rfl
theorem q1262 : (Jvm.Cond.code ({ cls := "LastWordWoodModel", name := "isWord", desc := "(I)Z" } : Jvm.MethodName) prog_14_method_35_code (2 : Nat) (Option.some Jvm.ClassFile.FieldType.boolean)) ∈ lw_all := lw_g (lw_at lw_m5 212 rfl) rfl
theorem q1263 : (Jvm.Cond.methodLink "LastWordWoodModel" (197 : Nat) ({ cls := "LastWordWoodModel", name := "errs", desc := "(I)I" } : Jvm.MethodName)) ∈ lw_all := lw_g (lw_at lw_m5 213 rfl) rfl
theorem q1264 : (Jvm.Cond.privateMethod ({ cls := "LastWordWoodModel", name := "errs", desc := "(I)I" } : Jvm.MethodName)) ∈ lw_tbl := lw_at lw_m5 214 rfl
theorem q1265 : (Jvm.Cond.instanceMethod ({ cls := "LastWordWoodModel", name := "errs", desc := "(I)I" } : Jvm.MethodName)) ∈ lw_all := lw_g (lw_at lw_m5 215 rfl) rfl
theorem q1266 : (Jvm.Cond.code ({ cls := "LastWordWoodModel", name := "errs", desc := "(I)I" } : Jvm.MethodName) prog_14_method_34_code (2 : Nat) (Option.some Jvm.ClassFile.FieldType.int)) ∈ lw_all := lw_g (lw_at lw_m5 216 rfl) rfl
theorem q1267 : (Jvm.Cond.methodLink "LastWordWoodModel" (216 : Nat) ({ cls := "LastWordWoodModel", name := "readSum", desc := "()I" } : Jvm.MethodName)) ∈ lw_all := lw_g (lw_at lw_m5 217 rfl) rfl
theorem q1268 : (Jvm.Cond.privateMethod ({ cls := "LastWordWoodModel", name := "readSum", desc := "()I" } : Jvm.MethodName)) ∈ lw_tbl := lw_at lw_m5 218 rfl
theorem q1269 : (Jvm.Cond.instanceMethod ({ cls := "LastWordWoodModel", name := "readSum", desc := "()I" } : Jvm.MethodName)) ∈ lw_all := lw_g (lw_at lw_m5 219 rfl) rfl
theorem q1270 : (Jvm.Cond.code ({ cls := "LastWordWoodModel", name := "readSum", desc := "()I" } : Jvm.MethodName) prog_14_method_40_code (2 : Nat) (Option.some Jvm.ClassFile.FieldType.int)) ∈ lw_all := lw_g (lw_at lw_m5 220 rfl) rfl
theorem q1271 : (Jvm.Cond.methodLink "LastWordWoodModel" (213 : Nat) ({ cls := "LastWordWoodModel", name := "readProduct", desc := "()I" } : Jvm.MethodName)) ∈ lw_all := lw_g (lw_at lw_m5 221 rfl) rfl
theorem q1272 : (Jvm.Cond.privateMethod ({ cls := "LastWordWoodModel", name := "readProduct", desc := "()I" } : Jvm.MethodName)) ∈ lw_tbl := lw_at lw_m5 222 rfl
theorem q1273 : (Jvm.Cond.instanceMethod ({ cls := "LastWordWoodModel", name := "readProduct", desc := "()I" } : Jvm.MethodName)) ∈ lw_all := lw_g (lw_at lw_m5 223 rfl) rfl
theorem q1274 : (Jvm.Cond.code ({ cls := "LastWordWoodModel", name := "readProduct", desc := "()I" } : Jvm.MethodName) prog_14_method_39_code (2 : Nat) (Option.some Jvm.ClassFile.FieldType.int)) ∈ lw_all := lw_g (lw_at lw_m5 224 rfl) rfl
theorem q1275 : (Jvm.Cond.methodLink "LastWordWoodModel" (206 : Nat) ({ cls := "LastWordWoodModel", name := "readUnit", desc := "()I" } : Jvm.MethodName)) ∈ lw_all := lw_g (lw_at lw_m5 225 rfl) rfl
theorem q1276 : (Jvm.Cond.privateMethod ({ cls := "LastWordWoodModel", name := "readUnit", desc := "()I" } : Jvm.MethodName)) ∈ lw_tbl := lw_at lw_m5 226 rfl
theorem q1277 : (Jvm.Cond.instanceMethod ({ cls := "LastWordWoodModel", name := "readUnit", desc := "()I" } : Jvm.MethodName)) ∈ lw_all := lw_g (lw_at lw_m5 227 rfl) rfl
theorem q1278 : (Jvm.Cond.code ({ cls := "LastWordWoodModel", name := "readUnit", desc := "()I" } : Jvm.MethodName) prog_14_method_38_code (2 : Nat) (Option.some Jvm.ClassFile.FieldType.int)) ∈ lw_all := lw_g (lw_at lw_m5 228 rfl) rfl
theorem q1279 : (Jvm.Cond.methodLink "LastWordWoodModel" (200 : Nat) ({ cls := "LastWordWoodModel", name := "emits", desc := "(II)V" } : Jvm.MethodName)) ∈ lw_all := lw_g (lw_at lw_m5 229 rfl) rfl
theorem q1280 : (Jvm.Cond.privateMethod ({ cls := "LastWordWoodModel", name := "emits", desc := "(II)V" } : Jvm.MethodName)) ∈ lw_tbl := lw_at lw_m5 230 rfl
theorem q1281 : (Jvm.Cond.instanceMethod ({ cls := "LastWordWoodModel", name := "emits", desc := "(II)V" } : Jvm.MethodName)) ∈ lw_all := lw_g (lw_at lw_m5 231 rfl) rfl
theorem q1282 : (Jvm.Cond.code ({ cls := "LastWordWoodModel", name := "emits", desc := "(II)V" } : Jvm.MethodName) prog_14_method_37_code (3 : Nat) (Option.none : Option Jvm.ClassFile.FieldType)) ∈ lw_all := lw_g (lw_at lw_m5 232 rfl) rfl
theorem q1283 : (Jvm.Cond.methodLink "LastWordWoodModel" (210 : Nat) ({ cls := "LastWordWoodModel", name := "isSign", desc := "(I)Z" } : Jvm.MethodName)) ∈ lw_all := lw_g (lw_at lw_m5 233 rfl) rfl
theorem q1284 : (Jvm.Cond.privateMethod ({ cls := "LastWordWoodModel", name := "isSign", desc := "(I)Z" } : Jvm.MethodName)) ∈ lw_tbl := lw_at lw_m5 234 rfl
theorem q1285 : (Jvm.Cond.instanceMethod ({ cls := "LastWordWoodModel", name := "isSign", desc := "(I)Z" } : Jvm.MethodName)) ∈ lw_all := lw_g (lw_at lw_m5 235 rfl) rfl
theorem q1286 : (Jvm.Cond.code ({ cls := "LastWordWoodModel", name := "isSign", desc := "(I)Z" } : Jvm.MethodName) prog_14_method_36_code (2 : Nat) (Option.some Jvm.ClassFile.FieldType.boolean)) ∈ lw_all := lw_g (lw_at lw_m5 236 rfl) rfl
theorem q1287 : (Jvm.Cond.methodLink "LastWordWoodModel" (237 : Nat) ({ cls := "LastWordWoodModel", name := "readAny", desc := "()I" } : Jvm.MethodName)) ∈ lw_all := lw_g (lw_at lw_m5 237 rfl) rfl
theorem q1288 : (Jvm.Cond.privateMethod ({ cls := "LastWordWoodModel", name := "readAny", desc := "()I" } : Jvm.MethodName)) ∈ lw_tbl := lw_at lw_m5 238 rfl
theorem q1289 : (Jvm.Cond.instanceMethod ({ cls := "LastWordWoodModel", name := "readAny", desc := "()I" } : Jvm.MethodName)) ∈ lw_all := lw_g (lw_at lw_m5 239 rfl) rfl
theorem q1290 : (Jvm.Cond.code ({ cls := "LastWordWoodModel", name := "readAny", desc := "()I" } : Jvm.MethodName) prog_14_method_44_code (4 : Nat) (Option.some Jvm.ClassFile.FieldType.int)) ∈ lw_all := lw_g (lw_at lw_m6 0 rfl) rfl
theorem q1291 : (Jvm.Cond.methodLink "LastWordWoodModel" (228 : Nat) ({ cls := "LastWordWoodModel", name := "waits", desc := "(I)V" } : Jvm.MethodName)) ∈ lw_all := lw_g (lw_at lw_m6 1 rfl) rfl
theorem q1292 : (Jvm.Cond.privateMethod ({ cls := "LastWordWoodModel", name := "waits", desc := "(I)V" } : Jvm.MethodName)) ∈ lw_tbl := lw_at lw_m6 2 rfl
theorem q1293 : (Jvm.Cond.instanceMethod ({ cls := "LastWordWoodModel", name := "waits", desc := "(I)V" } : Jvm.MethodName)) ∈ lw_all := lw_g (lw_at lw_m6 3 rfl) rfl
theorem q1294 : (Jvm.Cond.code ({ cls := "LastWordWoodModel", name := "waits", desc := "(I)V" } : Jvm.MethodName) prog_14_method_42_code (2 : Nat) (Option.none : Option Jvm.ClassFile.FieldType)) ∈ lw_all := lw_g (lw_at lw_m6 4 rfl) rfl
theorem q1295 : (Jvm.Cond.methodLink "LastWordWoodModel" (231 : Nat) ({ cls := "LastWordWoodModel", name := "readCompared", desc := "()I" } : Jvm.MethodName)) ∈ lw_all := lw_g (lw_at lw_m6 5 rfl) rfl
theorem q1296 : (Jvm.Cond.privateMethod ({ cls := "LastWordWoodModel", name := "readCompared", desc := "()I" } : Jvm.MethodName)) ∈ lw_tbl := lw_at lw_m6 6 rfl
theorem q1297 : (Jvm.Cond.instanceMethod ({ cls := "LastWordWoodModel", name := "readCompared", desc := "()I" } : Jvm.MethodName)) ∈ lw_all := lw_g (lw_at lw_m6 7 rfl) rfl
theorem q1298 : (Jvm.Cond.code ({ cls := "LastWordWoodModel", name := "readCompared", desc := "()I" } : Jvm.MethodName) prog_14_method_41_code (2 : Nat) (Option.some Jvm.ClassFile.FieldType.int)) ∈ lw_all := lw_g (lw_at lw_m6 8 rfl) rfl
theorem q1299 : (Jvm.Cond.methodLink "LastWordWoodModel" (234 : Nat) ({ cls := "LastWordWoodModel", name := "settles", desc := "(I)V" } : Jvm.MethodName)) ∈ lw_all := lw_g (lw_at lw_m6 9 rfl) rfl
theorem q1300 : (Jvm.Cond.privateMethod ({ cls := "LastWordWoodModel", name := "settles", desc := "(I)V" } : Jvm.MethodName)) ∈ lw_tbl := lw_at lw_m6 10 rfl
theorem q1301 : (Jvm.Cond.instanceMethod ({ cls := "LastWordWoodModel", name := "settles", desc := "(I)V" } : Jvm.MethodName)) ∈ lw_all := lw_g (lw_at lw_m6 11 rfl) rfl
theorem q1302 : (Jvm.Cond.code ({ cls := "LastWordWoodModel", name := "settles", desc := "(I)V" } : Jvm.MethodName) prog_14_method_43_code (2 : Nat) (Option.none : Option Jvm.ClassFile.FieldType)) ∈ lw_all := lw_g (lw_at lw_m6 12 rfl) rfl
theorem q1304 : (Jvm.Cond.instanceMethod ({ cls := "LastWordWoodModel", name := "fault", desc := "(I)I" } : Jvm.MethodName)) ∈ lw_all := lw_g (lw_at lw_m6 14 rfl) rfl
theorem q1305 : (Jvm.Cond.selects "LastWordWoodModel" ({ cls := "LastWordWoodModel", name := "fault", desc := "(I)I" } : Jvm.MethodName) ({ cls := "LastWordWoodModel", name := "fault", desc := "(I)I" } : Jvm.MethodName)) ∈ lw_all := lw_g (lw_at lw_m6 15 rfl) rfl
theorem q1306 : (Jvm.Cond.code ({ cls := "LastWordWoodModel", name := "fault", desc := "(I)I" } : Jvm.MethodName) prog_14_method_47_code (2 : Nat) (Option.some Jvm.ClassFile.FieldType.int)) ∈ lw_all := lw_g (lw_at lw_m6 16 rfl) rfl
theorem q1308 : (Jvm.Cond.instanceMethod ({ cls := "LastWordWoodModel", name := "days", desc := "(I)I" } : Jvm.MethodName)) ∈ lw_all := lw_g (lw_at lw_m6 18 rfl) rfl
theorem q1309 : (Jvm.Cond.selects "LastWordWoodModel" ({ cls := "LastWordWoodModel", name := "days", desc := "(I)I" } : Jvm.MethodName) ({ cls := "LastWordWoodModel", name := "days", desc := "(I)I" } : Jvm.MethodName)) ∈ lw_all := lw_g (lw_at lw_m6 19 rfl) rfl
theorem q1310 : (Jvm.Cond.code ({ cls := "LastWordWoodModel", name := "days", desc := "(I)I" } : Jvm.MethodName) prog_14_method_59_code (4 : Nat) (Option.some Jvm.ClassFile.FieldType.int)) ∈ lw_all := lw_g (lw_at lw_m6 20 rfl) rfl
theorem q1311 : (Jvm.Cond.methodLink "LastWordWoodModel" (284 : Nat) ({ cls := "LastWordWoodModel", name := "ends", desc := "()Z" } : Jvm.MethodName)) ∈ lw_all := lw_g (lw_at lw_m6 21 rfl) rfl
theorem q1312 : (Jvm.Cond.privateMethod ({ cls := "LastWordWoodModel", name := "ends", desc := "()Z" } : Jvm.MethodName)) ∈ lw_tbl := lw_at lw_m6 22 rfl
theorem q1313 : (Jvm.Cond.instanceMethod ({ cls := "LastWordWoodModel", name := "ends", desc := "()Z" } : Jvm.MethodName)) ∈ lw_all := lw_g (lw_at lw_m6 23 rfl) rfl
theorem q1314 : (Jvm.Cond.code ({ cls := "LastWordWoodModel", name := "ends", desc := "()Z" } : Jvm.MethodName) prog_14_method_58_code (3 : Nat) (Option.some Jvm.ClassFile.FieldType.boolean)) ∈ lw_all := lw_g (lw_at lw_m6 24 rfl) rfl
theorem q1315 : (Jvm.Cond.methodLink "LastWordWoodModel" (271 : Nat) ({ cls := "LastWordWoodModel", name := "thinksOfSizes", desc := "()V" } : Jvm.MethodName)) ∈ lw_all := lw_g (lw_at lw_m6 25 rfl) rfl
theorem q1316 : (Jvm.Cond.privateMethod ({ cls := "LastWordWoodModel", name := "thinksOfSizes", desc := "()V" } : Jvm.MethodName)) ∈ lw_tbl := lw_at lw_m6 26 rfl
theorem q1317 : (Jvm.Cond.instanceMethod ({ cls := "LastWordWoodModel", name := "thinksOfSizes", desc := "()V" } : Jvm.MethodName)) ∈ lw_all := lw_g (lw_at lw_m6 27 rfl) rfl
theorem q1318 : (Jvm.Cond.code ({ cls := "LastWordWoodModel", name := "thinksOfSizes", desc := "()V" } : Jvm.MethodName) prog_14_method_53_code (2 : Nat) (Option.none : Option Jvm.ClassFile.FieldType)) ∈ lw_all := lw_g (lw_at lw_m6 28 rfl) rfl
theorem q1319 : (Jvm.Cond.methodLink "LastWordWoodModel" (274 : Nat) ({ cls := "LastWordWoodModel", name := "allGrow", desc := "(II)V" } : Jvm.MethodName)) ∈ lw_all := lw_g (lw_at lw_m6 29 rfl) rfl
theorem q1320 : (Jvm.Cond.privateMethod ({ cls := "LastWordWoodModel", name := "allGrow", desc := "(II)V" } : Jvm.MethodName)) ∈ lw_tbl := lw_at lw_m6 30 rfl
theorem q1321 : (Jvm.Cond.instanceMethod ({ cls := "LastWordWoodModel", name := "allGrow", desc := "(II)V" } : Jvm.MethodName)) ∈ lw_all := lw_g (lw_at lw_m6 31 rfl) rfl
theorem q1322 : (Jvm.Cond.code ({ cls := "LastWordWoodModel", name := "allGrow", desc := "(II)V" } : Jvm.MethodName) prog_14_method_54_code (5 : Nat) (Option.none : Option Jvm.ClassFile.FieldType)) ∈ lw_all := lw_g (lw_at lw_m6 32 rfl) rfl
theorem q1323 : (Jvm.Cond.methodLink "LastWordWoodModel" (262 : Nat) ({ cls := "LastWordWoodModel", name := "growsBy", desc := "(III)I" } : Jvm.MethodName)) ∈ lw_all := lw_g (lw_at lw_m6 33 rfl) rfl
theorem q1324 : (Jvm.Cond.privateMethod ({ cls := "LastWordWoodModel", name := "growsBy", desc := "(III)I" } : Jvm.MethodName)) ∈ lw_tbl := lw_at lw_m6 34 rfl
theorem q1325 : (Jvm.Cond.instanceMethod ({ cls := "LastWordWoodModel", name := "growsBy", desc := "(III)I" } : Jvm.MethodName)) ∈ lw_all := lw_g (lw_at lw_m6 35 rfl) rfl
theorem q1326 : (Jvm.Cond.code ({ cls := "LastWordWoodModel", name := "growsBy", desc := "(III)I" } : Jvm.MethodName) prog_14_method_52_code (7 : Nat) (Option.some Jvm.ClassFile.FieldType.int)) ∈ lw_all := lw_g (lw_at lw_m6 36 rfl) rfl
theorem q1327 : (Jvm.Cond.methodLink "LastWordWoodModel" (256 : Nat) ({ cls := "LastWordWoodModel", name := "capsBeside", desc := "(II)I" } : Jvm.MethodName)) ∈ lw_all := lw_g (lw_at lw_m6 37 rfl) rfl
theorem q1328 : (Jvm.Cond.privateMethod ({ cls := "LastWordWoodModel", name := "capsBeside", desc := "(II)I" } : Jvm.MethodName)) ∈ lw_tbl := lw_at lw_m6 38 rfl
theorem q1329 : (Jvm.Cond.instanceMethod ({ cls := "LastWordWoodModel", name := "capsBeside", desc := "(II)I" } : Jvm.MethodName)) ∈ lw_all := lw_g (lw_at lw_m6 39 rfl) rfl
theorem q1330 : (Jvm.Cond.code ({ cls := "LastWordWoodModel", name := "capsBeside", desc := "(II)I" } : Jvm.MethodName) prog_14_method_51_code (5 : Nat) (Option.some Jvm.ClassFile.FieldType.int)) ∈ lw_all := lw_g (lw_at lw_m6 40 rfl) rfl
theorem q1331 : (Jvm.Cond.methodLink "LastWordWoodModel" (253 : Nat) ({ cls := "LastWordWoodModel", name := "farOf", desc := "(II)I" } : Jvm.MethodName)) ∈ lw_all := lw_g (lw_at lw_m6 41 rfl) rfl
theorem q1332 : (Jvm.Cond.privateMethod ({ cls := "LastWordWoodModel", name := "farOf", desc := "(II)I" } : Jvm.MethodName)) ∈ lw_tbl := lw_at lw_m6 42 rfl
theorem q1333 : (Jvm.Cond.instanceMethod ({ cls := "LastWordWoodModel", name := "farOf", desc := "(II)I" } : Jvm.MethodName)) ∈ lw_all := lw_g (lw_at lw_m6 43 rfl) rfl
theorem q1334 : (Jvm.Cond.code ({ cls := "LastWordWoodModel", name := "farOf", desc := "(II)I" } : Jvm.MethodName) prog_14_method_13_code (3 : Nat) (Option.some Jvm.ClassFile.FieldType.int)) ∈ lw_all := lw_g (lw_at lw_m6 44 rfl) rfl
theorem q1335 : (Jvm.Cond.methodLink "LastWordWoodModel" (103 : Nat) ({ cls := "LastWordWoodModel", name := "without", desc := "(I)I" } : Jvm.MethodName)) ∈ lw_all := lw_g (lw_at lw_m6 45 rfl) rfl
theorem q1336 : (Jvm.Cond.privateMethod ({ cls := "LastWordWoodModel", name := "without", desc := "(I)I" } : Jvm.MethodName)) ∈ lw_tbl := lw_at lw_m6 46 rfl
theorem q1337 : (Jvm.Cond.instanceMethod ({ cls := "LastWordWoodModel", name := "without", desc := "(I)I" } : Jvm.MethodName)) ∈ lw_all := lw_g (lw_at lw_m6 47 rfl) rfl
theorem q1338 : (Jvm.Cond.code ({ cls := "LastWordWoodModel", name := "without", desc := "(I)I" } : Jvm.MethodName) prog_14_method_5_code (2 : Nat) (Option.some Jvm.ClassFile.FieldType.int)) ∈ lw_all := lw_g (lw_at lw_m6 48 rfl) rfl
theorem q1339 : (Jvm.Cond.methodLink "LastWordWoodModel" (259 : Nat) ({ cls := "LastWordWoodModel", name := "isSo", desc := "(I)Z" } : Jvm.MethodName)) ∈ lw_all := lw_g (lw_at lw_m6 49 rfl) rfl
theorem q1340 : (Jvm.Cond.privateMethod ({ cls := "LastWordWoodModel", name := "isSo", desc := "(I)Z" } : Jvm.MethodName)) ∈ lw_tbl := lw_at lw_m6 50 rfl
theorem q1341 : (Jvm.Cond.instanceMethod ({ cls := "LastWordWoodModel", name := "isSo", desc := "(I)Z" } : Jvm.MethodName)) ∈ lw_all := lw_g (lw_at lw_m6 51 rfl) rfl
theorem q1342 : (Jvm.Cond.code ({ cls := "LastWordWoodModel", name := "isSo", desc := "(I)Z" } : Jvm.MethodName) prog_14_method_50_code (2 : Nat) (Option.some Jvm.ClassFile.FieldType.boolean)) ∈ lw_all := lw_g (lw_at lw_m6 52 rfl) rfl
theorem q1343 : (Jvm.Cond.methodLink "LastWordWoodModel" (250 : Nat) ({ cls := "LastWordWoodModel", name := "runs", desc := "(II)I" } : Jvm.MethodName)) ∈ lw_all := lw_g (lw_at lw_m6 53 rfl) rfl
theorem q1344 : (Jvm.Cond.privateMethod ({ cls := "LastWordWoodModel", name := "runs", desc := "(II)I" } : Jvm.MethodName)) ∈ lw_tbl := lw_at lw_m6 54 rfl
theorem q1345 : (Jvm.Cond.instanceMethod ({ cls := "LastWordWoodModel", name := "runs", desc := "(II)I" } : Jvm.MethodName)) ∈ lw_all := lw_g (lw_at lw_m6 55 rfl) rfl
theorem q1346 : (Jvm.Cond.code ({ cls := "LastWordWoodModel", name := "runs", desc := "(II)I" } : Jvm.MethodName) prog_14_method_49_code (5 : Nat) (Option.some Jvm.ClassFile.FieldType.int)) ∈ lw_all := lw_g (lw_at lw_m6 56 rfl) rfl
theorem q1347 : (Jvm.Cond.methodLink "LastWordWoodModel" (246 : Nat) ({ cls := "LastWordWoodModel", name := "twoOf", desc := "(III)I" } : Jvm.MethodName)) ∈ lw_all := lw_g (lw_at lw_m6 57 rfl) rfl
theorem q1348 : (Jvm.Cond.privateMethod ({ cls := "LastWordWoodModel", name := "twoOf", desc := "(III)I" } : Jvm.MethodName)) ∈ lw_tbl := lw_at lw_m6 58 rfl
theorem q1349 : (Jvm.Cond.instanceMethod ({ cls := "LastWordWoodModel", name := "twoOf", desc := "(III)I" } : Jvm.MethodName)) ∈ lw_all := lw_g (lw_at lw_m6 59 rfl) rfl
theorem q1350 : (Jvm.Cond.code ({ cls := "LastWordWoodModel", name := "twoOf", desc := "(III)I" } : Jvm.MethodName) prog_14_method_48_code (4 : Nat) (Option.some Jvm.ClassFile.FieldType.int)) ∈ lw_all := lw_g (lw_at lw_m6 60 rfl) rfl
theorem q1351 : (Jvm.Cond.methodLink "LastWordWoodModel" (277 : Nat) ({ cls := "LastWordWoodModel", name := "isEaten", desc := "()Z" } : Jvm.MethodName)) ∈ lw_all := lw_g (lw_at lw_m6 61 rfl) rfl
theorem q1352 : (Jvm.Cond.privateMethod ({ cls := "LastWordWoodModel", name := "isEaten", desc := "()Z" } : Jvm.MethodName)) ∈ lw_tbl := lw_at lw_m6 62 rfl
theorem q1353 : (Jvm.Cond.instanceMethod ({ cls := "LastWordWoodModel", name := "isEaten", desc := "()Z" } : Jvm.MethodName)) ∈ lw_all := lw_g (lw_at lw_m6 63 rfl) rfl
theorem q1354 : (Jvm.Cond.code ({ cls := "LastWordWoodModel", name := "isEaten", desc := "()Z" } : Jvm.MethodName) prog_14_method_56_code (4 : Nat) (Option.some Jvm.ClassFile.FieldType.boolean)) ∈ lw_all := lw_g (lw_at lw_m6 64 rfl) rfl
theorem q1355 : (Jvm.Cond.methodLink "LastWordWoodModel" (265 : Nat) ({ cls := "LastWordWoodModel", name := "caps", desc := "()I" } : Jvm.MethodName)) ∈ lw_all := lw_g (lw_at lw_m6 65 rfl) rfl
theorem q1356 : (Jvm.Cond.privateMethod ({ cls := "LastWordWoodModel", name := "caps", desc := "()I" } : Jvm.MethodName)) ∈ lw_tbl := lw_at lw_m6 66 rfl
theorem q1357 : (Jvm.Cond.instanceMethod ({ cls := "LastWordWoodModel", name := "caps", desc := "()I" } : Jvm.MethodName)) ∈ lw_all := lw_g (lw_at lw_m6 67 rfl) rfl
theorem q1358 : (Jvm.Cond.code ({ cls := "LastWordWoodModel", name := "caps", desc := "()I" } : Jvm.MethodName) prog_14_method_55_code (3 : Nat) (Option.some Jvm.ClassFile.FieldType.int)) ∈ lw_all := lw_g (lw_at lw_m6 68 rfl) rfl
theorem q1359 : (Jvm.Cond.methodLink "LastWordWoodModel" (268 : Nat) ({ cls := "LastWordWoodModel", name := "draw", desc := "(I)I" } : Jvm.MethodName)) ∈ lw_all := lw_g (lw_at lw_m6 69 rfl) rfl
theorem q1360 : (Jvm.Cond.privateMethod ({ cls := "LastWordWoodModel", name := "draw", desc := "(I)I" } : Jvm.MethodName)) ∈ lw_tbl := lw_at lw_m6 70 rfl
theorem q1361 : (Jvm.Cond.instanceMethod ({ cls := "LastWordWoodModel", name := "draw", desc := "(I)I" } : Jvm.MethodName)) ∈ lw_all := lw_g (lw_at lw_m6 71 rfl) rfl
theorem q1362 : (Jvm.Cond.code ({ cls := "LastWordWoodModel", name := "draw", desc := "(I)I" } : Jvm.MethodName) prog_14_method_9_code (2 : Nat) (Option.some Jvm.ClassFile.FieldType.int)) ∈ lw_all := lw_g (lw_at lw_m6 72 rfl) rfl
theorem q1363 : (Jvm.Cond.constant "LastWordWoodModel" (95 : Nat) (1664525 : Int32)) ∈ lw_all := lw_g (lw_at lw_m6 73 rfl) rfl
theorem q1364 : (Jvm.Cond.constant "LastWordWoodModel" (96 : Nat) (1013904223 : Int32)) ∈ lw_all := lw_g (lw_at lw_m6 74 rfl) rfl
theorem q1365 : (Jvm.Cond.methodLink "LastWordWoodModel" (281 : Nat) ({ cls := "LastWordWoodModel", name := "rains", desc := "()V" } : Jvm.MethodName)) ∈ lw_all := lw_g (lw_at lw_m6 75 rfl) rfl
theorem q1366 : (Jvm.Cond.privateMethod ({ cls := "LastWordWoodModel", name := "rains", desc := "()V" } : Jvm.MethodName)) ∈ lw_tbl := lw_at lw_m6 76 rfl
theorem q1367 : (Jvm.Cond.instanceMethod ({ cls := "LastWordWoodModel", name := "rains", desc := "()V" } : Jvm.MethodName)) ∈ lw_all := lw_g (lw_at lw_m6 77 rfl) rfl
theorem q1368 : (Jvm.Cond.code ({ cls := "LastWordWoodModel", name := "rains", desc := "()V" } : Jvm.MethodName) prog_14_method_57_code (4 : Nat) (Option.none : Option Jvm.ClassFile.FieldType)) ∈ lw_all := lw_g (lw_at lw_m6 78 rfl) rfl
theorem q1370 : (Jvm.Cond.instanceMethod ({ cls := "LastWordWoodModel", name := "at", desc := "(II)I" } : Jvm.MethodName)) ∈ lw_all := lw_g (lw_at lw_m6 80 rfl) rfl
theorem q1371 : (Jvm.Cond.selects "LastWordWoodModel" ({ cls := "LastWordWoodModel", name := "at", desc := "(II)I" } : Jvm.MethodName) ({ cls := "LastWordWoodModel", name := "at", desc := "(II)I" } : Jvm.MethodName)) ∈ lw_all := lw_g (lw_at lw_m6 81 rfl) rfl
theorem q1372 : (Jvm.Cond.code ({ cls := "LastWordWoodModel", name := "at", desc := "(II)I" } : Jvm.MethodName) prog_14_method_61_code (3 : Nat) (Option.some Jvm.ClassFile.FieldType.int)) ∈ lw_all := lw_g (lw_at lw_m6 82 rfl) rfl
theorem q1374 : (Jvm.Cond.instanceMethod ({ cls := "LastWordWoodModel", name := "of", desc := "(II)I" } : Jvm.MethodName)) ∈ lw_all := lw_g (lw_at lw_m6 84 rfl) rfl
theorem q1375 : (Jvm.Cond.selects "LastWordWoodModel" ({ cls := "LastWordWoodModel", name := "of", desc := "(II)I" } : Jvm.MethodName) ({ cls := "LastWordWoodModel", name := "of", desc := "(II)I" } : Jvm.MethodName)) ∈ lw_all := lw_g (lw_at lw_m6 85 rfl) rfl
theorem q1376 : (Jvm.Cond.code ({ cls := "LastWordWoodModel", name := "of", desc := "(II)I" } : Jvm.MethodName) prog_14_method_62_code (3 : Nat) (Option.some Jvm.ClassFile.FieldType.int)) ∈ lw_all := lw_g (lw_at lw_m6 86 rfl) rfl
theorem q1378 : (Jvm.Cond.instanceMethod ({ cls := "LastWordWoodModel", name := "kind", desc := "(II)I" } : Jvm.MethodName)) ∈ lw_all := lw_g (lw_at lw_m6 88 rfl) rfl
theorem q1379 : (Jvm.Cond.selects "LastWordWoodModel" ({ cls := "LastWordWoodModel", name := "kind", desc := "(II)I" } : Jvm.MethodName) ({ cls := "LastWordWoodModel", name := "kind", desc := "(II)I" } : Jvm.MethodName)) ∈ lw_all := lw_g (lw_at lw_m6 89 rfl) rfl
theorem q1380 : (Jvm.Cond.code ({ cls := "LastWordWoodModel", name := "kind", desc := "(II)I" } : Jvm.MethodName) prog_14_method_63_code (3 : Nat) (Option.some Jvm.ClassFile.FieldType.int)) ∈ lw_all := lw_g (lw_at lw_m6 90 rfl) rfl
theorem q1382 : (Jvm.Cond.instanceMethod ({ cls := "LastWordWoodModel", name := "book", desc := "(II)I" } : Jvm.MethodName)) ∈ lw_all := lw_g (lw_at lw_m6 92 rfl) rfl
theorem q1383 : (Jvm.Cond.selects "LastWordWoodModel" ({ cls := "LastWordWoodModel", name := "book", desc := "(II)I" } : Jvm.MethodName) ({ cls := "LastWordWoodModel", name := "book", desc := "(II)I" } : Jvm.MethodName)) ∈ lw_all := lw_g (lw_at lw_m6 93 rfl) rfl
theorem q1384 : (Jvm.Cond.code ({ cls := "LastWordWoodModel", name := "book", desc := "(II)I" } : Jvm.MethodName) prog_14_method_64_code (3 : Nat) (Option.some Jvm.ClassFile.FieldType.int)) ∈ lw_all := lw_g (lw_at lw_m6 94 rfl) rfl
theorem q1386 : (Jvm.Cond.instanceMethod ({ cls := "LastWordWoodModel", name := "soup", desc := "(III)I" } : Jvm.MethodName)) ∈ lw_all := lw_g (lw_at lw_m6 96 rfl) rfl
theorem q1387 : (Jvm.Cond.selects "LastWordWoodModel" ({ cls := "LastWordWoodModel", name := "soup", desc := "(III)I" } : Jvm.MethodName) ({ cls := "LastWordWoodModel", name := "soup", desc := "(III)I" } : Jvm.MethodName)) ∈ lw_all := lw_g (lw_at lw_m6 97 rfl) rfl
theorem q1388 : (Jvm.Cond.code ({ cls := "LastWordWoodModel", name := "soup", desc := "(III)I" } : Jvm.MethodName) prog_14_method_67_code (9 : Nat) (Option.some Jvm.ClassFile.FieldType.int)) ∈ lw_all := lw_g (lw_at lw_m6 98 rfl) rfl
theorem q1389 : (Jvm.Cond.methodLink "LastWordWoodModel" (291 : Nat) ({ cls := "LastWordWoodModel", name := "ones", desc := "(I)I" } : Jvm.MethodName)) ∈ lw_all := lw_g (lw_at lw_m6 99 rfl) rfl
theorem q1390 : (Jvm.Cond.privateMethod ({ cls := "LastWordWoodModel", name := "ones", desc := "(I)I" } : Jvm.MethodName)) ∈ lw_tbl := lw_at lw_m6 100 rfl
theorem q1391 : (Jvm.Cond.instanceMethod ({ cls := "LastWordWoodModel", name := "ones", desc := "(I)I" } : Jvm.MethodName)) ∈ lw_all := lw_g (lw_at lw_m6 101 rfl) rfl
theorem q1392 : (Jvm.Cond.code ({ cls := "LastWordWoodModel", name := "ones", desc := "(I)I" } : Jvm.MethodName) prog_14_method_4_code (4 : Nat) (Option.some Jvm.ClassFile.FieldType.int)) ∈ lw_all := lw_g (lw_at lw_m6 102 rfl) rfl
theorem q1393 : (Jvm.Cond.methodLink "LastWordWoodModel" (294 : Nat) ({ cls := "LastWordWoodModel", name := "wayFrom", desc := "(II)I" } : Jvm.MethodName)) ∈ lw_all := lw_g (lw_at lw_m6 103 rfl) rfl
theorem q1394 : (Jvm.Cond.privateMethod ({ cls := "LastWordWoodModel", name := "wayFrom", desc := "(II)I" } : Jvm.MethodName)) ∈ lw_tbl := lw_at lw_m6 104 rfl
theorem q1395 : (Jvm.Cond.instanceMethod ({ cls := "LastWordWoodModel", name := "wayFrom", desc := "(II)I" } : Jvm.MethodName)) ∈ lw_all := lw_g (lw_at lw_m6 105 rfl) rfl
theorem q1396 : (Jvm.Cond.code ({ cls := "LastWordWoodModel", name := "wayFrom", desc := "(II)I" } : Jvm.MethodName) prog_14_method_66_code (6 : Nat) (Option.some Jvm.ClassFile.FieldType.int)) ∈ lw_all := lw_g (lw_at lw_m6 106 rfl) rfl
theorem q1397 : (Jvm.Cond.constant "LastWordWoodModel" (287 : Nat) (1000000 : Int32)) ∈ lw_all := lw_g (lw_at lw_m6 107 rfl) rfl
theorem q1398 : (Jvm.Cond.methodLink "LastWordWoodModel" (288 : Nat) ({ cls := "LastWordWoodModel", name := "wayBy", desc := "(III)I" } : Jvm.MethodName)) ∈ lw_all := lw_g (lw_at lw_m6 108 rfl) rfl
theorem q1399 : (Jvm.Cond.privateMethod ({ cls := "LastWordWoodModel", name := "wayBy", desc := "(III)I" } : Jvm.MethodName)) ∈ lw_tbl := lw_at lw_m6 109 rfl
theorem q1400 : (Jvm.Cond.instanceMethod ({ cls := "LastWordWoodModel", name := "wayBy", desc := "(III)I" } : Jvm.MethodName)) ∈ lw_all := lw_g (lw_at lw_m6 110 rfl) rfl
theorem q1401 : (Jvm.Cond.code ({ cls := "LastWordWoodModel", name := "wayBy", desc := "(III)I" } : Jvm.MethodName) prog_14_method_65_code (5 : Nat) (Option.some Jvm.ClassFile.FieldType.int)) ∈ lw_all := lw_g (lw_at lw_m6 111 rfl) rfl
theorem q1403 : (Jvm.Cond.instanceMethod ({ cls := "LastWordWoodModel", name := "unsaid", desc := "(II)I" } : Jvm.MethodName)) ∈ lw_all := lw_g (lw_at lw_m6 113 rfl) rfl
theorem q1404 : (Jvm.Cond.selects "LastWordWoodModel" ({ cls := "LastWordWoodModel", name := "unsaid", desc := "(II)I" } : Jvm.MethodName) ({ cls := "LastWordWoodModel", name := "unsaid", desc := "(II)I" } : Jvm.MethodName)) ∈ lw_all := lw_g (lw_at lw_m6 114 rfl) rfl
theorem q1405 : (Jvm.Cond.code ({ cls := "LastWordWoodModel", name := "unsaid", desc := "(II)I" } : Jvm.MethodName) prog_14_method_70_code (5 : Nat) (Option.some Jvm.ClassFile.FieldType.int)) ∈ lw_all := lw_g (lw_at lw_m6 115 rfl) rfl
theorem q1406 : (Jvm.Cond.methodLink "LastWordWoodModel" (297 : Nat) ({ cls := "LastWordWoodModel", name := "isAround", desc := "(II)Z" } : Jvm.MethodName)) ∈ lw_all := lw_g (lw_at lw_m6 116 rfl) rfl
theorem q1407 : (Jvm.Cond.privateMethod ({ cls := "LastWordWoodModel", name := "isAround", desc := "(II)Z" } : Jvm.MethodName)) ∈ lw_tbl := lw_at lw_m6 117 rfl
theorem q1408 : (Jvm.Cond.instanceMethod ({ cls := "LastWordWoodModel", name := "isAround", desc := "(II)Z" } : Jvm.MethodName)) ∈ lw_all := lw_g (lw_at lw_m6 118 rfl) rfl
theorem q1409 : (Jvm.Cond.code ({ cls := "LastWordWoodModel", name := "isAround", desc := "(II)Z" } : Jvm.MethodName) prog_14_method_68_code (3 : Nat) (Option.some Jvm.ClassFile.FieldType.boolean)) ∈ lw_all := lw_g (lw_at lw_m6 119 rfl) rfl
theorem q1410 : (Jvm.Cond.methodLink "LastWordWoodModel" (301 : Nat) ({ cls := "LastWordWoodModel", name := "isCapAround", desc := "(III)Z" } : Jvm.MethodName)) ∈ lw_all := lw_g (lw_at lw_m6 120 rfl) rfl
theorem q1411 : (Jvm.Cond.privateMethod ({ cls := "LastWordWoodModel", name := "isCapAround", desc := "(III)Z" } : Jvm.MethodName)) ∈ lw_tbl := lw_at lw_m6 121 rfl
theorem q1412 : (Jvm.Cond.instanceMethod ({ cls := "LastWordWoodModel", name := "isCapAround", desc := "(III)Z" } : Jvm.MethodName)) ∈ lw_all := lw_g (lw_at lw_m6 122 rfl) rfl
theorem q1413 : (Jvm.Cond.code ({ cls := "LastWordWoodModel", name := "isCapAround", desc := "(III)Z" } : Jvm.MethodName) prog_14_method_69_code (4 : Nat) (Option.some Jvm.ClassFile.FieldType.boolean)) ∈ lw_all := lw_g (lw_at lw_m6 123 rfl) rfl
theorem q1415 : (Jvm.Cond.instanceMethod ({ cls := "LastWordWoodModel", name := "odds", desc := "(IIII)I" } : Jvm.MethodName)) ∈ lw_all := lw_g (lw_at lw_m6 125 rfl) rfl
theorem q1416 : (Jvm.Cond.selects "LastWordWoodModel" ({ cls := "LastWordWoodModel", name := "odds", desc := "(IIII)I" } : Jvm.MethodName) ({ cls := "LastWordWoodModel", name := "odds", desc := "(IIII)I" } : Jvm.MethodName)) ∈ lw_all := lw_g (lw_at lw_m6 126 rfl) rfl
theorem q1417 : (Jvm.Cond.code ({ cls := "LastWordWoodModel", name := "odds", desc := "(IIII)I" } : Jvm.MethodName) prog_14_method_72_code (12 : Nat) (Option.some Jvm.ClassFile.FieldType.int)) ∈ lw_all := lw_g (lw_at lw_m6 127 rfl) rfl
theorem q1418 : (Jvm.Cond.methodLink "LastWordWoodModel" (304 : Nat) ({ cls := "LastWordWoodModel", name := "waysOf", desc := "(II)I" } : Jvm.MethodName)) ∈ lw_all := lw_g (lw_at lw_m6 128 rfl) rfl
theorem q1419 : (Jvm.Cond.privateMethod ({ cls := "LastWordWoodModel", name := "waysOf", desc := "(II)I" } : Jvm.MethodName)) ∈ lw_tbl := lw_at lw_m6 129 rfl
theorem q1420 : (Jvm.Cond.instanceMethod ({ cls := "LastWordWoodModel", name := "waysOf", desc := "(II)I" } : Jvm.MethodName)) ∈ lw_all := lw_g (lw_at lw_m6 130 rfl) rfl
theorem q1421 : (Jvm.Cond.code ({ cls := "LastWordWoodModel", name := "waysOf", desc := "(II)I" } : Jvm.MethodName) prog_14_method_71_code (5 : Nat) (Option.some Jvm.ClassFile.FieldType.int)) ∈ lw_all := lw_g (lw_at lw_m6 131 rfl) rfl
theorem q1423 : (Jvm.Cond.instanceMethod ({ cls := "LastWordWoodModel", name := "grove", desc := "(II)I" } : Jvm.MethodName)) ∈ lw_all := lw_g (lw_at lw_m6 133 rfl) rfl
theorem q1424 : (Jvm.Cond.selects "LastWordWoodModel" ({ cls := "LastWordWoodModel", name := "grove", desc := "(II)I" } : Jvm.MethodName) ({ cls := "LastWordWoodModel", name := "grove", desc := "(II)I" } : Jvm.MethodName)) ∈ lw_all := lw_g (lw_at lw_m6 134 rfl) rfl
theorem q1425 : (Jvm.Cond.code ({ cls := "LastWordWoodModel", name := "grove", desc := "(II)I" } : Jvm.MethodName) prog_14_method_74_code (5 : Nat) (Option.some Jvm.ClassFile.FieldType.int)) ∈ lw_all := lw_g (lw_at lw_m6 135 rfl) rfl
theorem q1426 : (Jvm.Cond.methodLink "LastWordWoodModel" (307 : Nat) ({ cls := "LastWordWoodModel", name := "groveAt", desc := "(II)I" } : Jvm.MethodName)) ∈ lw_all := lw_g (lw_at lw_m6 136 rfl) rfl
theorem q1427 : (Jvm.Cond.privateMethod ({ cls := "LastWordWoodModel", name := "groveAt", desc := "(II)I" } : Jvm.MethodName)) ∈ lw_tbl := lw_at lw_m6 137 rfl
theorem q1428 : (Jvm.Cond.instanceMethod ({ cls := "LastWordWoodModel", name := "groveAt", desc := "(II)I" } : Jvm.MethodName)) ∈ lw_all := lw_g (lw_at lw_m6 138 rfl) rfl
theorem q1429 : (Jvm.Cond.code ({ cls := "LastWordWoodModel", name := "groveAt", desc := "(II)I" } : Jvm.MethodName) prog_14_method_73_code (5 : Nat) (Option.some Jvm.ClassFile.FieldType.int)) ∈ lw_all := lw_g (lw_at lw_m6 139 rfl) rfl
theorem q1431 : (Jvm.Cond.instanceMethod ({ cls := "LastWordWoodModel", name := "engaged", desc := "(I)I" } : Jvm.MethodName)) ∈ lw_all := lw_g (lw_at lw_m6 141 rfl) rfl
theorem q1432 : (Jvm.Cond.selects "LastWordWoodModel" ({ cls := "LastWordWoodModel", name := "engaged", desc := "(I)I" } : Jvm.MethodName) ({ cls := "LastWordWoodModel", name := "engaged", desc := "(I)I" } : Jvm.MethodName)) ∈ lw_all := lw_g (lw_at lw_m6 142 rfl) rfl
theorem q1433 : (Jvm.Cond.code ({ cls := "LastWordWoodModel", name := "engaged", desc := "(I)I" } : Jvm.MethodName) prog_14_method_76_code (6 : Nat) (Option.some Jvm.ClassFile.FieldType.int)) ∈ lw_all := lw_g (lw_at lw_m6 143 rfl) rfl
theorem q1434 : (Jvm.Cond.methodLink "LastWordWoodModel" (310 : Nat) ({ cls := "LastWordWoodModel", name := "areEngaged", desc := "(II)Z" } : Jvm.MethodName)) ∈ lw_all := lw_g (lw_at lw_m6 144 rfl) rfl
theorem q1435 : (Jvm.Cond.privateMethod ({ cls := "LastWordWoodModel", name := "areEngaged", desc := "(II)Z" } : Jvm.MethodName)) ∈ lw_tbl := lw_at lw_m6 145 rfl
theorem q1436 : (Jvm.Cond.instanceMethod ({ cls := "LastWordWoodModel", name := "areEngaged", desc := "(II)Z" } : Jvm.MethodName)) ∈ lw_all := lw_g (lw_at lw_m6 146 rfl) rfl
theorem q1437 : (Jvm.Cond.code ({ cls := "LastWordWoodModel", name := "areEngaged", desc := "(II)Z" } : Jvm.MethodName) prog_14_method_75_code (3 : Nat) (Option.some Jvm.ClassFile.FieldType.boolean)) ∈ lw_all := lw_g (lw_at lw_m6 147 rfl) rfl
theorem q1439 : (Jvm.Cond.instanceMethod ({ cls := "LastWordWoodModel", name := "size", desc := "(II)I" } : Jvm.MethodName)) ∈ lw_all := lw_g (lw_at lw_m6 149 rfl) rfl
theorem q1440 : (Jvm.Cond.selects "LastWordWoodModel" ({ cls := "LastWordWoodModel", name := "size", desc := "(II)I" } : Jvm.MethodName) ({ cls := "LastWordWoodModel", name := "size", desc := "(II)I" } : Jvm.MethodName)) ∈ lw_all := lw_g (lw_at lw_m6 150 rfl) rfl
theorem q1441 : (Jvm.Cond.code ({ cls := "LastWordWoodModel", name := "size", desc := "(II)I" } : Jvm.MethodName) prog_14_method_77_code (4 : Nat) (Option.some Jvm.ClassFile.FieldType.int)) ∈ lw_all := lw_g (lw_at lw_m6 151 rfl) rfl
theorem q1442 : (Jvm.Cond.methodLink "LastWordWoodModel" (313 : Nat) ({ cls := "LastWordWoodModel", name := "isCap", desc := "(I)Z" } : Jvm.MethodName)) ∈ lw_all := lw_g (lw_at lw_m6 152 rfl) rfl
theorem q1443 : (Jvm.Cond.privateMethod ({ cls := "LastWordWoodModel", name := "isCap", desc := "(I)Z" } : Jvm.MethodName)) ∈ lw_tbl := lw_at lw_m6 153 rfl
theorem q1444 : (Jvm.Cond.instanceMethod ({ cls := "LastWordWoodModel", name := "isCap", desc := "(I)Z" } : Jvm.MethodName)) ∈ lw_all := lw_g (lw_at lw_m6 154 rfl) rfl
theorem q1445 : (Jvm.Cond.code ({ cls := "LastWordWoodModel", name := "isCap", desc := "(I)Z" } : Jvm.MethodName) prog_14_method_60_code (2 : Nat) (Option.some Jvm.ClassFile.FieldType.boolean)) ∈ lw_all := lw_g (lw_at lw_m6 155 rfl) rfl
theorem q1447 : (Jvm.Cond.instanceMethod ({ cls := "LastWordWoodModel", name := "full", desc := "(I)I" } : Jvm.MethodName)) ∈ lw_all := lw_g (lw_at lw_m6 157 rfl) rfl
theorem q1448 : (Jvm.Cond.selects "LastWordWoodModel" ({ cls := "LastWordWoodModel", name := "full", desc := "(I)I" } : Jvm.MethodName) ({ cls := "LastWordWoodModel", name := "full", desc := "(I)I" } : Jvm.MethodName)) ∈ lw_all := lw_g (lw_at lw_m6 158 rfl) rfl
theorem q1449 : (Jvm.Cond.code ({ cls := "LastWordWoodModel", name := "full", desc := "(I)I" } : Jvm.MethodName) prog_14_method_79_code (3 : Nat) (Option.some Jvm.ClassFile.FieldType.int)) ∈ lw_all := lw_g (lw_at lw_m6 159 rfl) rfl
theorem q1450 : (Jvm.Cond.methodLink "LastWordWoodModel" (316 : Nat) ({ cls := "LastWordWoodModel", name := "allSizes", desc := "()I" } : Jvm.MethodName)) ∈ lw_all := lw_g (lw_at lw_m6 160 rfl) rfl
theorem q1451 : (Jvm.Cond.privateMethod ({ cls := "LastWordWoodModel", name := "allSizes", desc := "()I" } : Jvm.MethodName)) ∈ lw_tbl := lw_at lw_m6 161 rfl
theorem q1452 : (Jvm.Cond.instanceMethod ({ cls := "LastWordWoodModel", name := "allSizes", desc := "()I" } : Jvm.MethodName)) ∈ lw_all := lw_g (lw_at lw_m6 162 rfl) rfl
theorem q1453 : (Jvm.Cond.code ({ cls := "LastWordWoodModel", name := "allSizes", desc := "()I" } : Jvm.MethodName) prog_14_method_78_code (3 : Nat) (Option.some Jvm.ClassFile.FieldType.int)) ∈ lw_all := lw_g (lw_at lw_m6 163 rfl) rfl
theorem q1455 : (Jvm.Cond.instanceMethod ({ cls := "LastWordWoodModel", name := "went", desc := "(IIII)I" } : Jvm.MethodName)) ∈ lw_all := lw_g (lw_at lw_m6 165 rfl) rfl
theorem q1456 : (Jvm.Cond.selects "LastWordWoodModel" ({ cls := "LastWordWoodModel", name := "went", desc := "(IIII)I" } : Jvm.MethodName) ({ cls := "LastWordWoodModel", name := "went", desc := "(IIII)I" } : Jvm.MethodName)) ∈ lw_all := lw_g (lw_at lw_m6 166 rfl) rfl
theorem q1457 : (Jvm.Cond.code ({ cls := "LastWordWoodModel", name := "went", desc := "(IIII)I" } : Jvm.MethodName) prog_14_method_80_code (7 : Nat) (Option.some Jvm.ClassFile.FieldType.int)) ∈ lw_all := lw_g (lw_at lw_m6 167 rfl) rfl
theorem q1459 : (Jvm.Cond.instanceMethod ({ cls := "LastWordWoodModel", name := "image", desc := "(Z)Z" } : Jvm.MethodName)) ∈ lw_all := lw_g (lw_at lw_m6 169 rfl) rfl
theorem q1460 : (Jvm.Cond.selects "LastWordWoodModel" ({ cls := "LastWordWoodModel", name := "image", desc := "(Z)Z" } : Jvm.MethodName) ({ cls := "LastWordWoodModel", name := "image", desc := "(Z)Z" } : Jvm.MethodName)) ∈ lw_all := lw_g (lw_at lw_m6 170 rfl) rfl
theorem q1461 : (Jvm.Cond.code ({ cls := "LastWordWoodModel", name := "image", desc := "(Z)Z" } : Jvm.MethodName) prog_14_method_83_code (3 : Nat) (Option.some Jvm.ClassFile.FieldType.boolean)) ∈ lw_all := lw_g (lw_at lw_m6 171 rfl) rfl
theorem q1462 : (Jvm.Cond.methodLink "LastWordWoodModel" (326 : Nat) ({ cls := "LastWordWoodModel", name := "kept", desc := "(I)I" } : Jvm.MethodName)) ∈ lw_all := lw_g (lw_at lw_m6 172 rfl) rfl
theorem q1463 : (Jvm.Cond.privateMethod ({ cls := "LastWordWoodModel", name := "kept", desc := "(I)I" } : Jvm.MethodName)) ∈ lw_tbl := lw_at lw_m6 173 rfl
theorem q1464 : (Jvm.Cond.instanceMethod ({ cls := "LastWordWoodModel", name := "kept", desc := "(I)I" } : Jvm.MethodName)) ∈ lw_all := lw_g (lw_at lw_m6 174 rfl) rfl
theorem q1465 : (Jvm.Cond.code ({ cls := "LastWordWoodModel", name := "kept", desc := "(I)I" } : Jvm.MethodName) prog_14_method_81_code (2 : Nat) (Option.some Jvm.ClassFile.FieldType.int)) ∈ lw_all := lw_g (lw_at lw_m6 175 rfl) rfl
theorem q1466 : (Jvm.Cond.methodLink "LastWordWoodModel" (332 : Nat) ({ cls := "LastWordWoodModel", name := "keepsLaw", desc := "()V" } : Jvm.MethodName)) ∈ lw_all := lw_g (lw_at lw_m6 176 rfl) rfl
theorem q1467 : (Jvm.Cond.privateMethod ({ cls := "LastWordWoodModel", name := "keepsLaw", desc := "()V" } : Jvm.MethodName)) ∈ lw_tbl := lw_at lw_m6 177 rfl
theorem q1468 : (Jvm.Cond.instanceMethod ({ cls := "LastWordWoodModel", name := "keepsLaw", desc := "()V" } : Jvm.MethodName)) ∈ lw_all := lw_g (lw_at lw_m6 178 rfl) rfl
theorem q1469 : (Jvm.Cond.code ({ cls := "LastWordWoodModel", name := "keepsLaw", desc := "()V" } : Jvm.MethodName) prog_14_method_82_code (2 : Nat) (Option.none : Option Jvm.ClassFile.FieldType)) ∈ lw_all := lw_g (lw_at lw_m6 179 rfl) rfl
theorem q1471 : (Jvm.Cond.instanceMethod ({ cls := "LastWordWoodModel", name := "look", desc := "(I)I" } : Jvm.MethodName)) ∈ lw_all := lw_g (lw_at lw_m6 181 rfl) rfl
theorem q1472 : (Jvm.Cond.selects "LastWordWoodModel" ({ cls := "LastWordWoodModel", name := "look", desc := "(I)I" } : Jvm.MethodName) ({ cls := "LastWordWoodModel", name := "look", desc := "(I)I" } : Jvm.MethodName)) ∈ lw_all := lw_g (lw_at lw_m6 182 rfl) rfl
theorem q1473 : (Jvm.Cond.code ({ cls := "LastWordWoodModel", name := "look", desc := "(I)I" } : Jvm.MethodName) prog_14_method_84_code (2 : Nat) (Option.some Jvm.ClassFile.FieldType.int)) ∈ lw_all := lw_g (lw_at lw_m6 183 rfl) rfl
theorem q1480 : (Jvm.Cond.castable "LastWordWoodModel" "java/lang/Object") ∈ lw_tbl := lw_at lw_m6 190 rfl
theorem in_X3 : ∀ w ∈ wsX30, w ∈ lw_all := lw_in wsX30 [1042, 1044, 1046, 1048, 1050, 1052, 1054, 1056, 1058, 1060, 1062, 1064, 1066, 1068, 1070, 1072, 1074, 1076, 1078, 1080, 1082, 1084, 1086, 1088, 1090, 1092, 1094, 1096, 1098, 1100, 1102, 1104, 1106, 1108, 1110, 1112, 1114, 1116, 1118, 1120, 1122, 1124, 1126, 1128, 1130, 1132, 1134, 1136, 1138, 1140] (by decide +kernel) (by decide +kernel)

