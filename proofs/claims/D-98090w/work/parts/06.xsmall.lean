/-! LastWordWood$Wood -/
set_option maxRecDepth 100000
def RX1 : String := "LastWordWood$Wood"
def TX1 : u_T := fun k => match k with
  | 0 => ("LastWordWood$Wood", "damp", "[I", true)
  | 1 => ("LastWordWood$Wood", "word", "[I", true)
  | 2 => ("LastWordWood$Wood", "size", "[I", true)
  | 3 => ("LastWordWood$Wood", "came", "[I", true)
  | 4 => ("LastWordWood$Wood", "by", "[I", true)
  | 5 => ("LastWordWood$Wood", "grown", "[I", true)
  | 6 => ("LastWordWood$Wood", "worth", "[I", true)
  | 7 => ("LastWordWood$Wood", "poison", "[I", true)
  | 8 => ("LastWordWood$Wood", "cures", "[I", true)
  | 9 => ("LastWordWood$Wood", "book", "[[I", true)
  | 10 => ("LastWordWood$Wood", "people", "[LLastWordWood$Person;", true)
  | 11 => ("LastWordWood$Wood", "law", "Ljava/util/ArrayList;", false)
  | 12 => ("LastWordWood$Wood", "w", "I", false)
  | 13 => ("LastWordWood$Wood", "h", "I", false)
  | 14 => ("LastWordWood$Wood", "day", "I", false)
  | 15 => ("LastWordWood$Wood", "words", "I", false)
  | 16 => ("LastWordWood$Wood", "many", "I", false)
  | 17 => ("LastWordWood$Wood", "lines", "I", false)
  | 18 => ("LastWordWood$Wood", "state", "I", false)
  | 19 => ("LastWordWood$Wood", "frozen", "I", false)
  | 20 => ("LastWordWood$Wood", "asked", "I", false)
  | 21 => ("LastWordWood$Wood", "rain", "I", false)
  | 22 => ("LastWordWood$Wood", "frost", "I", false)
  | 23 => ("LastWordWood$Wood", "deer", "I", false)
  | _ => ("LastWordWood$Wood", "cell", "I", false)
def tyX1 : Nat → FieldType := fun k => match k with
  | 0 => .array .int
  | 1 => .array .int
  | 2 => .array .int
  | 3 => .array .int
  | 4 => .array .int
  | 5 => .array .int
  | 6 => .array .int
  | 7 => .array .int
  | 8 => .array .int
  | 9 => .array (.array .int)
  | 10 => .array (.object "LastWordWood$Person")
  | 11 => .object "java/util/ArrayList"
  | 12 => .int
  | 13 => .int
  | 14 => .int
  | 15 => .int
  | 16 => .int
  | 17 => .int
  | 18 => .int
  | 19 => .int
  | 20 => .int
  | 21 => .int
  | 22 => .int
  | 23 => .int
  | _ => .int
abbrev wsX10 : List Cond := u_ws RX1 TX1 25
set_option maxRecDepth 100000 in
theorem nmX1 : ∀ a, a < 25 → ∀ b, b < 25 → a ≠ b → (TX1 a).2.1 ≠ (TX1 b).2.1 := by decide +kernel
set_option maxRecDepth 100000 in
theorem tyX1_ok : ∀ k, k < 25 → parseFieldDescriptor (TX1 k).2.2.1 = some (tyX1 k) := by decide +kernel
abbrev cX1_init : ByteArray := prog_12_method_1_code
def yX1_init : MethodName := ⟨RX1, "<init>", "()V"⟩
def dkwX1_init_6 : List UInt8 := [182, 0, 58, 177]
abbrev dktX1_init_6 : List UInt8 := dkwX1_init_6 ++ []
def dkwX1_init_5 : List UInt8 := [180, 0, 46, 27, 187, 0, 44, 89, 183, 0, 57, 83, 132, 1, 1, 167, 255, 234, 42, 16, 6, 16, 6]
abbrev dktX1_init_5 : List UInt8 := dkwX1_init_5 ++ dktX1_init_6
def dkwX1_init_4 : List UInt8 := [181, 0, 46, 42, 187, 0, 50, 89, 183, 0, 52, 181, 0, 53, 3, 60, 27, 16, 6, 162, 0, 22, 42]
abbrev dktX1_init_4 : List UInt8 := dkwX1_init_4 ++ dktX1_init_5
def dkwX1_init_3 : List UInt8 := [188, 10, 181, 0, 36, 42, 16, 100, 7, 197, 0, 39, 2, 181, 0, 41, 42, 16, 6, 189, 0, 44]
abbrev dktX1_init_3 : List UInt8 := dkwX1_init_3 ++ dktX1_init_4
def dkwX1_init_2 : List UInt8 := [188, 10, 181, 0, 27, 42, 16, 12, 188, 10, 181, 0, 30, 42, 16, 12, 188, 10, 181, 0, 33, 42, 16, 12]
abbrev dktX1_init_2 : List UInt8 := dkwX1_init_2 ++ dktX1_init_3
def dkwX1_init_1 : List UInt8 := [188, 10, 181, 0, 18, 42, 16, 64, 188, 10, 181, 0, 21, 42, 16, 64, 188, 10, 181, 0, 24, 42, 16, 64]
abbrev dktX1_init_1 : List UInt8 := dkwX1_init_1 ++ dktX1_init_2
def dkwX1_init_0 : List UInt8 := [42, 183, 0, 3, 42, 16, 64, 188, 10, 181, 0, 9, 42, 16, 64, 188, 10, 181, 0, 15, 42, 16, 64]
abbrev dktX1_init_0 : List UInt8 := dkwX1_init_0 ++ dktX1_init_1
theorem dksX1_init_0 : cX1_init.data.toList.drop 0 = dktX1_init_0 := by decide +kernel
theorem dksX1_init_1 : cX1_init.data.toList.drop 23 = dktX1_init_1 := dk_seg dksX1_init_0 23 rfl rfl
theorem dksX1_init_2 : cX1_init.data.toList.drop 47 = dktX1_init_2 := dk_seg dksX1_init_1 24 rfl rfl
theorem dksX1_init_3 : cX1_init.data.toList.drop 71 = dktX1_init_3 := dk_seg dksX1_init_2 24 rfl rfl
theorem dksX1_init_4 : cX1_init.data.toList.drop 93 = dktX1_init_4 := dk_seg dksX1_init_3 22 rfl rfl
theorem dksX1_init_5 : cX1_init.data.toList.drop 116 = dktX1_init_5 := dk_seg dksX1_init_4 23 rfl rfl
theorem dksX1_init_6 : cX1_init.data.toList.drop 139 = dktX1_init_6 := dk_seg dksX1_init_5 23 rfl rfl
theorem dX1_init_0 : decode cX1_init 0 = .ok (.aload_n 0, 1) := dk_42 (dk_at dksX1_init_0 0 rfl rfl)
theorem dX1_init_1 : decode cX1_init 1 = .ok (.invokespecial 3, 3) := dk_183 0 3 (dk_at dksX1_init_0 1 rfl rfl)
theorem dX1_init_4 : decode cX1_init 4 = .ok (.aload_n 0, 1) := dk_42 (dk_at dksX1_init_0 4 rfl rfl)
theorem dX1_init_5 : decode cX1_init 5 = .ok (.bipush 64, 2) := dk_16 64 (dk_at dksX1_init_0 5 rfl rfl)
theorem dX1_init_7 : decode cX1_init 7 = .ok (.newarray .int, 2) := dk_188_10 (dk_at dksX1_init_0 7 rfl rfl)
theorem dX1_init_9 : decode cX1_init 9 = .ok (.putfield 9, 3) := dk_181 0 9 (dk_at dksX1_init_0 9 rfl rfl)
theorem dX1_init_12 : decode cX1_init 12 = .ok (.aload_n 0, 1) := dk_42 (dk_at dksX1_init_0 12 rfl rfl)
theorem dX1_init_13 : decode cX1_init 13 = .ok (.bipush 64, 2) := dk_16 64 (dk_at dksX1_init_0 13 rfl rfl)
theorem dX1_init_15 : decode cX1_init 15 = .ok (.newarray .int, 2) := dk_188_10 (dk_at dksX1_init_0 15 rfl rfl)
theorem dX1_init_17 : decode cX1_init 17 = .ok (.putfield 15, 3) := dk_181 0 15 (dk_at dksX1_init_0 17 rfl rfl)
theorem dX1_init_20 : decode cX1_init 20 = .ok (.aload_n 0, 1) := dk_42 (dk_at dksX1_init_0 20 rfl rfl)
theorem dX1_init_21 : decode cX1_init 21 = .ok (.bipush 64, 2) := dk_16 64 (dk_at dksX1_init_0 21 rfl rfl)
theorem dX1_init_23 : decode cX1_init 23 = .ok (.newarray .int, 2) := dk_188_10 (dk_at dksX1_init_1 0 rfl rfl)
theorem dX1_init_25 : decode cX1_init 25 = .ok (.putfield 18, 3) := dk_181 0 18 (dk_at dksX1_init_1 2 rfl rfl)
theorem dX1_init_28 : decode cX1_init 28 = .ok (.aload_n 0, 1) := dk_42 (dk_at dksX1_init_1 5 rfl rfl)
theorem dX1_init_29 : decode cX1_init 29 = .ok (.bipush 64, 2) := dk_16 64 (dk_at dksX1_init_1 6 rfl rfl)
theorem dX1_init_31 : decode cX1_init 31 = .ok (.newarray .int, 2) := dk_188_10 (dk_at dksX1_init_1 8 rfl rfl)
theorem dX1_init_33 : decode cX1_init 33 = .ok (.putfield 21, 3) := dk_181 0 21 (dk_at dksX1_init_1 10 rfl rfl)
theorem dX1_init_36 : decode cX1_init 36 = .ok (.aload_n 0, 1) := dk_42 (dk_at dksX1_init_1 13 rfl rfl)
theorem dX1_init_37 : decode cX1_init 37 = .ok (.bipush 64, 2) := dk_16 64 (dk_at dksX1_init_1 14 rfl rfl)
theorem dX1_init_39 : decode cX1_init 39 = .ok (.newarray .int, 2) := dk_188_10 (dk_at dksX1_init_1 16 rfl rfl)
theorem dX1_init_41 : decode cX1_init 41 = .ok (.putfield 24, 3) := dk_181 0 24 (dk_at dksX1_init_1 18 rfl rfl)
theorem dX1_init_44 : decode cX1_init 44 = .ok (.aload_n 0, 1) := dk_42 (dk_at dksX1_init_1 21 rfl rfl)
theorem dX1_init_45 : decode cX1_init 45 = .ok (.bipush 64, 2) := dk_16 64 (dk_at dksX1_init_1 22 rfl rfl)
theorem dX1_init_47 : decode cX1_init 47 = .ok (.newarray .int, 2) := dk_188_10 (dk_at dksX1_init_2 0 rfl rfl)
theorem dX1_init_49 : decode cX1_init 49 = .ok (.putfield 27, 3) := dk_181 0 27 (dk_at dksX1_init_2 2 rfl rfl)
theorem dX1_init_52 : decode cX1_init 52 = .ok (.aload_n 0, 1) := dk_42 (dk_at dksX1_init_2 5 rfl rfl)
theorem dX1_init_53 : decode cX1_init 53 = .ok (.bipush 12, 2) := dk_16 12 (dk_at dksX1_init_2 6 rfl rfl)
theorem dX1_init_55 : decode cX1_init 55 = .ok (.newarray .int, 2) := dk_188_10 (dk_at dksX1_init_2 8 rfl rfl)
theorem dX1_init_57 : decode cX1_init 57 = .ok (.putfield 30, 3) := dk_181 0 30 (dk_at dksX1_init_2 10 rfl rfl)
theorem dX1_init_60 : decode cX1_init 60 = .ok (.aload_n 0, 1) := dk_42 (dk_at dksX1_init_2 13 rfl rfl)
theorem dX1_init_61 : decode cX1_init 61 = .ok (.bipush 12, 2) := dk_16 12 (dk_at dksX1_init_2 14 rfl rfl)
theorem dX1_init_63 : decode cX1_init 63 = .ok (.newarray .int, 2) := dk_188_10 (dk_at dksX1_init_2 16 rfl rfl)
theorem dX1_init_65 : decode cX1_init 65 = .ok (.putfield 33, 3) := dk_181 0 33 (dk_at dksX1_init_2 18 rfl rfl)
theorem dX1_init_68 : decode cX1_init 68 = .ok (.aload_n 0, 1) := dk_42 (dk_at dksX1_init_2 21 rfl rfl)
theorem dX1_init_69 : decode cX1_init 69 = .ok (.bipush 12, 2) := dk_16 12 (dk_at dksX1_init_2 22 rfl rfl)
theorem dX1_init_71 : decode cX1_init 71 = .ok (.newarray .int, 2) := dk_188_10 (dk_at dksX1_init_3 0 rfl rfl)
theorem dX1_init_73 : decode cX1_init 73 = .ok (.putfield 36, 3) := dk_181 0 36 (dk_at dksX1_init_3 2 rfl rfl)
theorem dX1_init_76 : decode cX1_init 76 = .ok (.aload_n 0, 1) := dk_42 (dk_at dksX1_init_3 5 rfl rfl)
theorem dX1_init_77 : decode cX1_init 77 = .ok (.bipush 100, 2) := dk_16 100 (dk_at dksX1_init_3 6 rfl rfl)
theorem dX1_init_79 : decode cX1_init 79 = .ok (.iconst 4, 1) := dk_7 (dk_at dksX1_init_3 8 rfl rfl)
theorem dX1_init_80 : decode cX1_init 80 = .ok (.multianewarray 39 2, 4) := by decide +kernel
theorem dX1_init_84 : decode cX1_init 84 = .ok (.putfield 41, 3) := dk_181 0 41 (dk_at dksX1_init_3 13 rfl rfl)
theorem dX1_init_87 : decode cX1_init 87 = .ok (.aload_n 0, 1) := dk_42 (dk_at dksX1_init_3 16 rfl rfl)
theorem dX1_init_88 : decode cX1_init 88 = .ok (.bipush 6, 2) := dk_16 6 (dk_at dksX1_init_3 17 rfl rfl)
theorem dX1_init_90 : decode cX1_init 90 = .ok (.anewarray 44, 3) := dk_189 0 44 (dk_at dksX1_init_3 19 rfl rfl)
theorem dX1_init_93 : decode cX1_init 93 = .ok (.putfield 46, 3) := dk_181 0 46 (dk_at dksX1_init_4 0 rfl rfl)
theorem dX1_init_96 : decode cX1_init 96 = .ok (.aload_n 0, 1) := dk_42 (dk_at dksX1_init_4 3 rfl rfl)
theorem dX1_init_97 : decode cX1_init 97 = .ok (.new 50, 3) := dk_187 0 50 (dk_at dksX1_init_4 4 rfl rfl)
theorem dX1_init_100 : decode cX1_init 100 = .ok (.dup, 1) := dk_89 (dk_at dksX1_init_4 7 rfl rfl)
theorem dX1_init_101 : decode cX1_init 101 = .ok (.invokespecial 52, 3) := dk_183 0 52 (dk_at dksX1_init_4 8 rfl rfl)
theorem dX1_init_104 : decode cX1_init 104 = .ok (.putfield 53, 3) := dk_181 0 53 (dk_at dksX1_init_4 11 rfl rfl)
theorem dX1_init_107 : decode cX1_init 107 = .ok (.iconst 0, 1) := dk_3 (dk_at dksX1_init_4 14 rfl rfl)
theorem dX1_init_108 : decode cX1_init 108 = .ok (.istore_n 1, 1) := dk_60 (dk_at dksX1_init_4 15 rfl rfl)
theorem dX1_init_109 : decode cX1_init 109 = .ok (.iload_n 1, 1) := dk_27 (dk_at dksX1_init_4 16 rfl rfl)
theorem dX1_init_110 : decode cX1_init 110 = .ok (.bipush 6, 2) := dk_16 6 (dk_at dksX1_init_4 17 rfl rfl)
theorem dX1_init_112 : decode cX1_init 112 = .ok (.if_icmp .ge 22, 3) := dk_162 0 22 (dk_at dksX1_init_4 19 rfl rfl)
theorem dX1_init_115 : decode cX1_init 115 = .ok (.aload_n 0, 1) := dk_42 (dk_at dksX1_init_4 22 rfl rfl)
theorem dX1_init_116 : decode cX1_init 116 = .ok (.getfield 46, 3) := dk_180 0 46 (dk_at dksX1_init_5 0 rfl rfl)
theorem dX1_init_119 : decode cX1_init 119 = .ok (.iload_n 1, 1) := dk_27 (dk_at dksX1_init_5 3 rfl rfl)
theorem dX1_init_120 : decode cX1_init 120 = .ok (.new 44, 3) := dk_187 0 44 (dk_at dksX1_init_5 4 rfl rfl)
theorem dX1_init_123 : decode cX1_init 123 = .ok (.dup, 1) := dk_89 (dk_at dksX1_init_5 7 rfl rfl)
theorem dX1_init_124 : decode cX1_init 124 = .ok (.invokespecial 57, 3) := dk_183 0 57 (dk_at dksX1_init_5 8 rfl rfl)
theorem dX1_init_127 : decode cX1_init 127 = .ok (.aastore, 1) := dk_83 (dk_at dksX1_init_5 11 rfl rfl)
theorem dX1_init_128 : decode cX1_init 128 = .ok (.iinc 1 1, 3) := dk_132 1 1 (dk_at dksX1_init_5 12 rfl rfl)
theorem dX1_init_131 : decode cX1_init 131 = .ok (.goto (-22), 3) := dk_167 255 234 (dk_at dksX1_init_5 15 rfl rfl)
theorem dX1_init_134 : decode cX1_init 134 = .ok (.aload_n 0, 1) := dk_42 (dk_at dksX1_init_5 18 rfl rfl)
theorem dX1_init_135 : decode cX1_init 135 = .ok (.bipush 6, 2) := dk_16 6 (dk_at dksX1_init_5 19 rfl rfl)
theorem dX1_init_137 : decode cX1_init 137 = .ok (.bipush 6, 2) := dk_16 6 (dk_at dksX1_init_5 21 rfl rfl)
theorem dX1_init_139 : decode cX1_init 139 = .ok (.invokevirtual 58, 3) := dk_182 0 58 (dk_at dksX1_init_6 0 rfl rfl)
theorem dX1_init_142 : decode cX1_init 142 = .ok (.return_, 1) := dk_177 (dk_at dksX1_init_6 3 rfl rfl)
abbrev cX1_begins : ByteArray := prog_12_method_2_code
def yX1_begins : MethodName := ⟨RX1, "begins", "(II)V"⟩
def dkwX1_begins_4 : List UInt8 := [167, 255, 232, 177]
abbrev dktX1_begins_4 : List UInt8 := dkwX1_begins_4 ++ []
def dkwX1_begins_3 : List UInt8 := [16, 64, 162, 0, 24, 42, 180, 0, 9, 29, 16, 10, 79, 42, 180, 0, 15, 29, 2, 79, 132, 3, 1]
abbrev dktX1_begins_3 : List UInt8 := dkwX1_begins_3 ++ dktX1_begins_4
def dkwX1_begins_2 : List UInt8 := [3, 181, 0, 90, 42, 3, 181, 0, 93, 42, 187, 0, 50, 89, 183, 0, 52, 181, 0, 53, 3, 62, 29]
abbrev dktX1_begins_2 : List UInt8 := dkwX1_begins_2 ++ dktX1_begins_3
def dkwX1_begins_1 : List UInt8 := [181, 0, 75, 42, 3, 181, 0, 78, 42, 3, 181, 0, 81, 42, 3, 181, 0, 84, 42, 3, 181, 0, 87, 42]
abbrev dktX1_begins_1 : List UInt8 := dkwX1_begins_1 ++ dktX1_begins_2
def dkwX1_begins_0 : List UInt8 := [42, 27, 181, 0, 62, 42, 28, 181, 0, 66, 42, 3, 181, 0, 69, 42, 3, 181, 0, 72, 42, 3]
abbrev dktX1_begins_0 : List UInt8 := dkwX1_begins_0 ++ dktX1_begins_1
theorem dksX1_begins_0 : cX1_begins.data.toList.drop 0 = dktX1_begins_0 := by decide +kernel
theorem dksX1_begins_1 : cX1_begins.data.toList.drop 22 = dktX1_begins_1 := dk_seg dksX1_begins_0 22 rfl rfl
theorem dksX1_begins_2 : cX1_begins.data.toList.drop 46 = dktX1_begins_2 := dk_seg dksX1_begins_1 24 rfl rfl
theorem dksX1_begins_3 : cX1_begins.data.toList.drop 69 = dktX1_begins_3 := dk_seg dksX1_begins_2 23 rfl rfl
theorem dksX1_begins_4 : cX1_begins.data.toList.drop 92 = dktX1_begins_4 := dk_seg dksX1_begins_3 23 rfl rfl
theorem dX1_begins_0 : decode cX1_begins 0 = .ok (.aload_n 0, 1) := dk_42 (dk_at dksX1_begins_0 0 rfl rfl)
theorem dX1_begins_1 : decode cX1_begins 1 = .ok (.iload_n 1, 1) := dk_27 (dk_at dksX1_begins_0 1 rfl rfl)
theorem dX1_begins_2 : decode cX1_begins 2 = .ok (.putfield 62, 3) := dk_181 0 62 (dk_at dksX1_begins_0 2 rfl rfl)
theorem dX1_begins_5 : decode cX1_begins 5 = .ok (.aload_n 0, 1) := dk_42 (dk_at dksX1_begins_0 5 rfl rfl)
theorem dX1_begins_6 : decode cX1_begins 6 = .ok (.iload_n 2, 1) := dk_28 (dk_at dksX1_begins_0 6 rfl rfl)
theorem dX1_begins_7 : decode cX1_begins 7 = .ok (.putfield 66, 3) := dk_181 0 66 (dk_at dksX1_begins_0 7 rfl rfl)
theorem dX1_begins_10 : decode cX1_begins 10 = .ok (.aload_n 0, 1) := dk_42 (dk_at dksX1_begins_0 10 rfl rfl)
theorem dX1_begins_11 : decode cX1_begins 11 = .ok (.iconst 0, 1) := dk_3 (dk_at dksX1_begins_0 11 rfl rfl)
theorem dX1_begins_12 : decode cX1_begins 12 = .ok (.putfield 69, 3) := dk_181 0 69 (dk_at dksX1_begins_0 12 rfl rfl)
theorem dX1_begins_15 : decode cX1_begins 15 = .ok (.aload_n 0, 1) := dk_42 (dk_at dksX1_begins_0 15 rfl rfl)
theorem dX1_begins_16 : decode cX1_begins 16 = .ok (.iconst 0, 1) := dk_3 (dk_at dksX1_begins_0 16 rfl rfl)
theorem dX1_begins_17 : decode cX1_begins 17 = .ok (.putfield 72, 3) := dk_181 0 72 (dk_at dksX1_begins_0 17 rfl rfl)
theorem dX1_begins_20 : decode cX1_begins 20 = .ok (.aload_n 0, 1) := dk_42 (dk_at dksX1_begins_0 20 rfl rfl)
theorem dX1_begins_21 : decode cX1_begins 21 = .ok (.iconst 0, 1) := dk_3 (dk_at dksX1_begins_0 21 rfl rfl)
theorem dX1_begins_22 : decode cX1_begins 22 = .ok (.putfield 75, 3) := dk_181 0 75 (dk_at dksX1_begins_1 0 rfl rfl)
theorem dX1_begins_25 : decode cX1_begins 25 = .ok (.aload_n 0, 1) := dk_42 (dk_at dksX1_begins_1 3 rfl rfl)
theorem dX1_begins_26 : decode cX1_begins 26 = .ok (.iconst 0, 1) := dk_3 (dk_at dksX1_begins_1 4 rfl rfl)
theorem dX1_begins_27 : decode cX1_begins 27 = .ok (.putfield 78, 3) := dk_181 0 78 (dk_at dksX1_begins_1 5 rfl rfl)
theorem dX1_begins_30 : decode cX1_begins 30 = .ok (.aload_n 0, 1) := dk_42 (dk_at dksX1_begins_1 8 rfl rfl)
theorem dX1_begins_31 : decode cX1_begins 31 = .ok (.iconst 0, 1) := dk_3 (dk_at dksX1_begins_1 9 rfl rfl)
theorem dX1_begins_32 : decode cX1_begins 32 = .ok (.putfield 81, 3) := dk_181 0 81 (dk_at dksX1_begins_1 10 rfl rfl)
theorem dX1_begins_35 : decode cX1_begins 35 = .ok (.aload_n 0, 1) := dk_42 (dk_at dksX1_begins_1 13 rfl rfl)
theorem dX1_begins_36 : decode cX1_begins 36 = .ok (.iconst 0, 1) := dk_3 (dk_at dksX1_begins_1 14 rfl rfl)
theorem dX1_begins_37 : decode cX1_begins 37 = .ok (.putfield 84, 3) := dk_181 0 84 (dk_at dksX1_begins_1 15 rfl rfl)
theorem dX1_begins_40 : decode cX1_begins 40 = .ok (.aload_n 0, 1) := dk_42 (dk_at dksX1_begins_1 18 rfl rfl)
theorem dX1_begins_41 : decode cX1_begins 41 = .ok (.iconst 0, 1) := dk_3 (dk_at dksX1_begins_1 19 rfl rfl)
theorem dX1_begins_42 : decode cX1_begins 42 = .ok (.putfield 87, 3) := dk_181 0 87 (dk_at dksX1_begins_1 20 rfl rfl)
theorem dX1_begins_45 : decode cX1_begins 45 = .ok (.aload_n 0, 1) := dk_42 (dk_at dksX1_begins_1 23 rfl rfl)
theorem dX1_begins_46 : decode cX1_begins 46 = .ok (.iconst 0, 1) := dk_3 (dk_at dksX1_begins_2 0 rfl rfl)
theorem dX1_begins_47 : decode cX1_begins 47 = .ok (.putfield 90, 3) := dk_181 0 90 (dk_at dksX1_begins_2 1 rfl rfl)
theorem dX1_begins_50 : decode cX1_begins 50 = .ok (.aload_n 0, 1) := dk_42 (dk_at dksX1_begins_2 4 rfl rfl)
theorem dX1_begins_51 : decode cX1_begins 51 = .ok (.iconst 0, 1) := dk_3 (dk_at dksX1_begins_2 5 rfl rfl)
theorem dX1_begins_52 : decode cX1_begins 52 = .ok (.putfield 93, 3) := dk_181 0 93 (dk_at dksX1_begins_2 6 rfl rfl)
theorem dX1_begins_55 : decode cX1_begins 55 = .ok (.aload_n 0, 1) := dk_42 (dk_at dksX1_begins_2 9 rfl rfl)
theorem dX1_begins_56 : decode cX1_begins 56 = .ok (.new 50, 3) := dk_187 0 50 (dk_at dksX1_begins_2 10 rfl rfl)
theorem dX1_begins_59 : decode cX1_begins 59 = .ok (.dup, 1) := dk_89 (dk_at dksX1_begins_2 13 rfl rfl)
theorem dX1_begins_60 : decode cX1_begins 60 = .ok (.invokespecial 52, 3) := dk_183 0 52 (dk_at dksX1_begins_2 14 rfl rfl)
theorem dX1_begins_63 : decode cX1_begins 63 = .ok (.putfield 53, 3) := dk_181 0 53 (dk_at dksX1_begins_2 17 rfl rfl)
theorem dX1_begins_66 : decode cX1_begins 66 = .ok (.iconst 0, 1) := dk_3 (dk_at dksX1_begins_2 20 rfl rfl)
theorem dX1_begins_67 : decode cX1_begins 67 = .ok (.istore_n 3, 1) := dk_62 (dk_at dksX1_begins_2 21 rfl rfl)
theorem dX1_begins_68 : decode cX1_begins 68 = .ok (.iload_n 3, 1) := dk_29 (dk_at dksX1_begins_2 22 rfl rfl)
theorem dX1_begins_69 : decode cX1_begins 69 = .ok (.bipush 64, 2) := dk_16 64 (dk_at dksX1_begins_3 0 rfl rfl)
theorem dX1_begins_71 : decode cX1_begins 71 = .ok (.if_icmp .ge 24, 3) := dk_162 0 24 (dk_at dksX1_begins_3 2 rfl rfl)
theorem dX1_begins_74 : decode cX1_begins 74 = .ok (.aload_n 0, 1) := dk_42 (dk_at dksX1_begins_3 5 rfl rfl)
theorem dX1_begins_75 : decode cX1_begins 75 = .ok (.getfield 9, 3) := dk_180 0 9 (dk_at dksX1_begins_3 6 rfl rfl)
theorem dX1_begins_78 : decode cX1_begins 78 = .ok (.iload_n 3, 1) := dk_29 (dk_at dksX1_begins_3 9 rfl rfl)
theorem dX1_begins_79 : decode cX1_begins 79 = .ok (.bipush 10, 2) := dk_16 10 (dk_at dksX1_begins_3 10 rfl rfl)
theorem dX1_begins_81 : decode cX1_begins 81 = .ok (.iastore, 1) := dk_79 (dk_at dksX1_begins_3 12 rfl rfl)
theorem dX1_begins_82 : decode cX1_begins 82 = .ok (.aload_n 0, 1) := dk_42 (dk_at dksX1_begins_3 13 rfl rfl)
theorem dX1_begins_83 : decode cX1_begins 83 = .ok (.getfield 15, 3) := dk_180 0 15 (dk_at dksX1_begins_3 14 rfl rfl)
theorem dX1_begins_86 : decode cX1_begins 86 = .ok (.iload_n 3, 1) := dk_29 (dk_at dksX1_begins_3 17 rfl rfl)
theorem dX1_begins_87 : decode cX1_begins 87 = .ok (.iconst (-1), 1) := dk_2 (dk_at dksX1_begins_3 18 rfl rfl)
theorem dX1_begins_88 : decode cX1_begins 88 = .ok (.iastore, 1) := dk_79 (dk_at dksX1_begins_3 19 rfl rfl)
theorem dX1_begins_89 : decode cX1_begins 89 = .ok (.iinc 3 1, 3) := dk_132 3 1 (dk_at dksX1_begins_3 20 rfl rfl)
theorem dX1_begins_92 : decode cX1_begins 92 = .ok (.goto (-24), 3) := dk_167 255 232 (dk_at dksX1_begins_4 0 rfl rfl)
theorem dX1_begins_95 : decode cX1_begins 95 = .ok (.return_, 1) := dk_177 (dk_at dksX1_begins_4 3 rfl rfl)
abbrev cX1_moves : ByteArray := prog_12_method_3_code
def yX1_moves : MethodName := ⟨RX1, "moves", "(LLastWordWood$Wood;)V"⟩
def dkwX1_moves_4 : List UInt8 := [28, 43, 180, 0, 24, 28, 46, 79, 132, 2, 1, 167, 255, 199, 177]
abbrev dktX1_moves_4 : List UInt8 := dkwX1_moves_4 ++ []
def dkwX1_moves_3 : List UInt8 := [28, 43, 180, 0, 18, 28, 46, 79, 42, 180, 0, 21, 28, 43, 180, 0, 21, 28, 46, 79, 42, 180, 0, 24]
abbrev dktX1_moves_3 : List UInt8 := dkwX1_moves_3 ++ dktX1_moves_4
def dkwX1_moves_2 : List UInt8 := [3, 61, 28, 16, 64, 162, 0, 57, 42, 180, 0, 15, 28, 43, 180, 0, 15, 28, 46, 79, 42, 180, 0, 18]
abbrev dktX1_moves_2 : List UInt8 := dkwX1_moves_2 ++ dktX1_moves_3
def dkwX1_moves_1 : List UInt8 := [162, 0, 24, 42, 180, 0, 46, 28, 50, 43, 180, 0, 46, 28, 50, 182, 0, 96, 132, 2, 1, 167, 255, 230]
abbrev dktX1_moves_1 : List UInt8 := dkwX1_moves_1 ++ dktX1_moves_2
def dkwX1_moves_0 : List UInt8 := [42, 43, 180, 0, 84, 181, 0, 84, 42, 43, 180, 0, 78, 181, 0, 78, 3, 61, 28, 42, 180, 0, 75]
abbrev dktX1_moves_0 : List UInt8 := dkwX1_moves_0 ++ dktX1_moves_1
theorem dksX1_moves_0 : cX1_moves.data.toList.drop 0 = dktX1_moves_0 := by decide +kernel
theorem dksX1_moves_1 : cX1_moves.data.toList.drop 23 = dktX1_moves_1 := dk_seg dksX1_moves_0 23 rfl rfl
theorem dksX1_moves_2 : cX1_moves.data.toList.drop 47 = dktX1_moves_2 := dk_seg dksX1_moves_1 24 rfl rfl
theorem dksX1_moves_3 : cX1_moves.data.toList.drop 71 = dktX1_moves_3 := dk_seg dksX1_moves_2 24 rfl rfl
theorem dksX1_moves_4 : cX1_moves.data.toList.drop 95 = dktX1_moves_4 := dk_seg dksX1_moves_3 24 rfl rfl
theorem dX1_moves_0 : decode cX1_moves 0 = .ok (.aload_n 0, 1) := dk_42 (dk_at dksX1_moves_0 0 rfl rfl)
theorem dX1_moves_1 : decode cX1_moves 1 = .ok (.aload_n 1, 1) := dk_43 (dk_at dksX1_moves_0 1 rfl rfl)
theorem dX1_moves_2 : decode cX1_moves 2 = .ok (.getfield 84, 3) := dk_180 0 84 (dk_at dksX1_moves_0 2 rfl rfl)
theorem dX1_moves_5 : decode cX1_moves 5 = .ok (.putfield 84, 3) := dk_181 0 84 (dk_at dksX1_moves_0 5 rfl rfl)
theorem dX1_moves_8 : decode cX1_moves 8 = .ok (.aload_n 0, 1) := dk_42 (dk_at dksX1_moves_0 8 rfl rfl)
theorem dX1_moves_9 : decode cX1_moves 9 = .ok (.aload_n 1, 1) := dk_43 (dk_at dksX1_moves_0 9 rfl rfl)
theorem dX1_moves_10 : decode cX1_moves 10 = .ok (.getfield 78, 3) := dk_180 0 78 (dk_at dksX1_moves_0 10 rfl rfl)
theorem dX1_moves_13 : decode cX1_moves 13 = .ok (.putfield 78, 3) := dk_181 0 78 (dk_at dksX1_moves_0 13 rfl rfl)
theorem dX1_moves_16 : decode cX1_moves 16 = .ok (.iconst 0, 1) := dk_3 (dk_at dksX1_moves_0 16 rfl rfl)
theorem dX1_moves_17 : decode cX1_moves 17 = .ok (.istore_n 2, 1) := dk_61 (dk_at dksX1_moves_0 17 rfl rfl)
theorem dX1_moves_18 : decode cX1_moves 18 = .ok (.iload_n 2, 1) := dk_28 (dk_at dksX1_moves_0 18 rfl rfl)
theorem dX1_moves_19 : decode cX1_moves 19 = .ok (.aload_n 0, 1) := dk_42 (dk_at dksX1_moves_0 19 rfl rfl)
theorem dX1_moves_20 : decode cX1_moves 20 = .ok (.getfield 75, 3) := dk_180 0 75 (dk_at dksX1_moves_0 20 rfl rfl)
theorem dX1_moves_23 : decode cX1_moves 23 = .ok (.if_icmp .ge 24, 3) := dk_162 0 24 (dk_at dksX1_moves_1 0 rfl rfl)
theorem dX1_moves_26 : decode cX1_moves 26 = .ok (.aload_n 0, 1) := dk_42 (dk_at dksX1_moves_1 3 rfl rfl)
theorem dX1_moves_27 : decode cX1_moves 27 = .ok (.getfield 46, 3) := dk_180 0 46 (dk_at dksX1_moves_1 4 rfl rfl)
theorem dX1_moves_30 : decode cX1_moves 30 = .ok (.iload_n 2, 1) := dk_28 (dk_at dksX1_moves_1 7 rfl rfl)
theorem dX1_moves_31 : decode cX1_moves 31 = .ok (.aaload, 1) := dk_50 (dk_at dksX1_moves_1 8 rfl rfl)
theorem dX1_moves_32 : decode cX1_moves 32 = .ok (.aload_n 1, 1) := dk_43 (dk_at dksX1_moves_1 9 rfl rfl)
theorem dX1_moves_33 : decode cX1_moves 33 = .ok (.getfield 46, 3) := dk_180 0 46 (dk_at dksX1_moves_1 10 rfl rfl)
theorem dX1_moves_36 : decode cX1_moves 36 = .ok (.iload_n 2, 1) := dk_28 (dk_at dksX1_moves_1 13 rfl rfl)
theorem dX1_moves_37 : decode cX1_moves 37 = .ok (.aaload, 1) := dk_50 (dk_at dksX1_moves_1 14 rfl rfl)
theorem dX1_moves_38 : decode cX1_moves 38 = .ok (.invokevirtual 96, 3) := dk_182 0 96 (dk_at dksX1_moves_1 15 rfl rfl)
theorem dX1_moves_41 : decode cX1_moves 41 = .ok (.iinc 2 1, 3) := dk_132 2 1 (dk_at dksX1_moves_1 18 rfl rfl)
theorem dX1_moves_44 : decode cX1_moves 44 = .ok (.goto (-26), 3) := dk_167 255 230 (dk_at dksX1_moves_1 21 rfl rfl)
theorem dX1_moves_47 : decode cX1_moves 47 = .ok (.iconst 0, 1) := dk_3 (dk_at dksX1_moves_2 0 rfl rfl)
theorem dX1_moves_48 : decode cX1_moves 48 = .ok (.istore_n 2, 1) := dk_61 (dk_at dksX1_moves_2 1 rfl rfl)
theorem dX1_moves_49 : decode cX1_moves 49 = .ok (.iload_n 2, 1) := dk_28 (dk_at dksX1_moves_2 2 rfl rfl)
theorem dX1_moves_50 : decode cX1_moves 50 = .ok (.bipush 64, 2) := dk_16 64 (dk_at dksX1_moves_2 3 rfl rfl)
theorem dX1_moves_52 : decode cX1_moves 52 = .ok (.if_icmp .ge 57, 3) := dk_162 0 57 (dk_at dksX1_moves_2 5 rfl rfl)
theorem dX1_moves_55 : decode cX1_moves 55 = .ok (.aload_n 0, 1) := dk_42 (dk_at dksX1_moves_2 8 rfl rfl)
theorem dX1_moves_56 : decode cX1_moves 56 = .ok (.getfield 15, 3) := dk_180 0 15 (dk_at dksX1_moves_2 9 rfl rfl)
theorem dX1_moves_59 : decode cX1_moves 59 = .ok (.iload_n 2, 1) := dk_28 (dk_at dksX1_moves_2 12 rfl rfl)
theorem dX1_moves_60 : decode cX1_moves 60 = .ok (.aload_n 1, 1) := dk_43 (dk_at dksX1_moves_2 13 rfl rfl)
theorem dX1_moves_61 : decode cX1_moves 61 = .ok (.getfield 15, 3) := dk_180 0 15 (dk_at dksX1_moves_2 14 rfl rfl)
theorem dX1_moves_64 : decode cX1_moves 64 = .ok (.iload_n 2, 1) := dk_28 (dk_at dksX1_moves_2 17 rfl rfl)
theorem dX1_moves_65 : decode cX1_moves 65 = .ok (.iaload, 1) := dk_46 (dk_at dksX1_moves_2 18 rfl rfl)
theorem dX1_moves_66 : decode cX1_moves 66 = .ok (.iastore, 1) := dk_79 (dk_at dksX1_moves_2 19 rfl rfl)
theorem dX1_moves_67 : decode cX1_moves 67 = .ok (.aload_n 0, 1) := dk_42 (dk_at dksX1_moves_2 20 rfl rfl)
theorem dX1_moves_68 : decode cX1_moves 68 = .ok (.getfield 18, 3) := dk_180 0 18 (dk_at dksX1_moves_2 21 rfl rfl)
theorem dX1_moves_71 : decode cX1_moves 71 = .ok (.iload_n 2, 1) := dk_28 (dk_at dksX1_moves_3 0 rfl rfl)
theorem dX1_moves_72 : decode cX1_moves 72 = .ok (.aload_n 1, 1) := dk_43 (dk_at dksX1_moves_3 1 rfl rfl)
theorem dX1_moves_73 : decode cX1_moves 73 = .ok (.getfield 18, 3) := dk_180 0 18 (dk_at dksX1_moves_3 2 rfl rfl)
theorem dX1_moves_76 : decode cX1_moves 76 = .ok (.iload_n 2, 1) := dk_28 (dk_at dksX1_moves_3 5 rfl rfl)
theorem dX1_moves_77 : decode cX1_moves 77 = .ok (.iaload, 1) := dk_46 (dk_at dksX1_moves_3 6 rfl rfl)
theorem dX1_moves_78 : decode cX1_moves 78 = .ok (.iastore, 1) := dk_79 (dk_at dksX1_moves_3 7 rfl rfl)
theorem dX1_moves_79 : decode cX1_moves 79 = .ok (.aload_n 0, 1) := dk_42 (dk_at dksX1_moves_3 8 rfl rfl)
theorem dX1_moves_80 : decode cX1_moves 80 = .ok (.getfield 21, 3) := dk_180 0 21 (dk_at dksX1_moves_3 9 rfl rfl)
theorem dX1_moves_83 : decode cX1_moves 83 = .ok (.iload_n 2, 1) := dk_28 (dk_at dksX1_moves_3 12 rfl rfl)
theorem dX1_moves_84 : decode cX1_moves 84 = .ok (.aload_n 1, 1) := dk_43 (dk_at dksX1_moves_3 13 rfl rfl)
theorem dX1_moves_85 : decode cX1_moves 85 = .ok (.getfield 21, 3) := dk_180 0 21 (dk_at dksX1_moves_3 14 rfl rfl)
theorem dX1_moves_88 : decode cX1_moves 88 = .ok (.iload_n 2, 1) := dk_28 (dk_at dksX1_moves_3 17 rfl rfl)
theorem dX1_moves_89 : decode cX1_moves 89 = .ok (.iaload, 1) := dk_46 (dk_at dksX1_moves_3 18 rfl rfl)
theorem dX1_moves_90 : decode cX1_moves 90 = .ok (.iastore, 1) := dk_79 (dk_at dksX1_moves_3 19 rfl rfl)
theorem dX1_moves_91 : decode cX1_moves 91 = .ok (.aload_n 0, 1) := dk_42 (dk_at dksX1_moves_3 20 rfl rfl)
theorem dX1_moves_92 : decode cX1_moves 92 = .ok (.getfield 24, 3) := dk_180 0 24 (dk_at dksX1_moves_3 21 rfl rfl)
theorem dX1_moves_95 : decode cX1_moves 95 = .ok (.iload_n 2, 1) := dk_28 (dk_at dksX1_moves_4 0 rfl rfl)
theorem dX1_moves_96 : decode cX1_moves 96 = .ok (.aload_n 1, 1) := dk_43 (dk_at dksX1_moves_4 1 rfl rfl)
theorem dX1_moves_97 : decode cX1_moves 97 = .ok (.getfield 24, 3) := dk_180 0 24 (dk_at dksX1_moves_4 2 rfl rfl)
theorem dX1_moves_100 : decode cX1_moves 100 = .ok (.iload_n 2, 1) := dk_28 (dk_at dksX1_moves_4 5 rfl rfl)
theorem dX1_moves_101 : decode cX1_moves 101 = .ok (.iaload, 1) := dk_46 (dk_at dksX1_moves_4 6 rfl rfl)
theorem dX1_moves_102 : decode cX1_moves 102 = .ok (.iastore, 1) := dk_79 (dk_at dksX1_moves_4 7 rfl rfl)
theorem dX1_moves_103 : decode cX1_moves 103 = .ok (.iinc 2 1, 3) := dk_132 2 1 (dk_at dksX1_moves_4 8 rfl rfl)
theorem dX1_moves_106 : decode cX1_moves 106 = .ok (.goto (-57), 3) := dk_167 255 199 (dk_at dksX1_moves_4 11 rfl rfl)
theorem dX1_moves_109 : decode cX1_moves 109 = .ok (.return_, 1) := dk_177 (dk_at dksX1_moves_4 14 rfl rfl)
abbrev cX1_isCell : ByteArray := prog_12_method_6_code
def yX1_isCell : MethodName := ⟨RX1, "isCell", "(I)Z"⟩
def dkwX1_isCell_1 : List UInt8 := [108, 42, 180, 0, 66, 162, 0, 7, 4, 167, 0, 4, 3, 172]
abbrev dktX1_isCell_1 : List UInt8 := dkwX1_isCell_1 ++ []
def dkwX1_isCell_0 : List UInt8 := [27, 3, 16, 63, 184, 0, 109, 153, 0, 29, 27, 16, 8, 112, 42, 180, 0, 62, 162, 0, 18, 27, 16, 8]
abbrev dktX1_isCell_0 : List UInt8 := dkwX1_isCell_0 ++ dktX1_isCell_1
theorem dksX1_isCell_0 : cX1_isCell.data.toList.drop 0 = dktX1_isCell_0 := by decide +kernel
theorem dksX1_isCell_1 : cX1_isCell.data.toList.drop 24 = dktX1_isCell_1 := dk_seg dksX1_isCell_0 24 rfl rfl
theorem dX1_isCell_0 : decode cX1_isCell 0 = .ok (.iload_n 1, 1) := dk_27 (dk_at dksX1_isCell_0 0 rfl rfl)
theorem dX1_isCell_1 : decode cX1_isCell 1 = .ok (.iconst 0, 1) := dk_3 (dk_at dksX1_isCell_0 1 rfl rfl)
theorem dX1_isCell_2 : decode cX1_isCell 2 = .ok (.bipush 63, 2) := dk_16 63 (dk_at dksX1_isCell_0 2 rfl rfl)
theorem dX1_isCell_4 : decode cX1_isCell 4 = .ok (.invokestatic 109, 3) := dk_184 0 109 (dk_at dksX1_isCell_0 4 rfl rfl)
theorem dX1_isCell_7 : decode cX1_isCell 7 = .ok (.ifCond .eq 29, 3) := dk_153 0 29 (dk_at dksX1_isCell_0 7 rfl rfl)
theorem dX1_isCell_10 : decode cX1_isCell 10 = .ok (.iload_n 1, 1) := dk_27 (dk_at dksX1_isCell_0 10 rfl rfl)
theorem dX1_isCell_11 : decode cX1_isCell 11 = .ok (.bipush 8, 2) := dk_16 8 (dk_at dksX1_isCell_0 11 rfl rfl)
theorem dX1_isCell_13 : decode cX1_isCell 13 = .ok (.irem, 1) := dk_112 (dk_at dksX1_isCell_0 13 rfl rfl)
theorem dX1_isCell_14 : decode cX1_isCell 14 = .ok (.aload_n 0, 1) := dk_42 (dk_at dksX1_isCell_0 14 rfl rfl)
theorem dX1_isCell_15 : decode cX1_isCell 15 = .ok (.getfield 62, 3) := dk_180 0 62 (dk_at dksX1_isCell_0 15 rfl rfl)
theorem dX1_isCell_18 : decode cX1_isCell 18 = .ok (.if_icmp .ge 18, 3) := dk_162 0 18 (dk_at dksX1_isCell_0 18 rfl rfl)
theorem dX1_isCell_21 : decode cX1_isCell 21 = .ok (.iload_n 1, 1) := dk_27 (dk_at dksX1_isCell_0 21 rfl rfl)
theorem dX1_isCell_22 : decode cX1_isCell 22 = .ok (.bipush 8, 2) := dk_16 8 (dk_at dksX1_isCell_0 22 rfl rfl)
theorem dX1_isCell_24 : decode cX1_isCell 24 = .ok (.idiv, 1) := dk_108 (dk_at dksX1_isCell_1 0 rfl rfl)
theorem dX1_isCell_25 : decode cX1_isCell 25 = .ok (.aload_n 0, 1) := dk_42 (dk_at dksX1_isCell_1 1 rfl rfl)
theorem dX1_isCell_26 : decode cX1_isCell 26 = .ok (.getfield 66, 3) := dk_180 0 66 (dk_at dksX1_isCell_1 2 rfl rfl)
theorem dX1_isCell_29 : decode cX1_isCell 29 = .ok (.if_icmp .ge 7, 3) := dk_162 0 7 (dk_at dksX1_isCell_1 5 rfl rfl)
theorem dX1_isCell_32 : decode cX1_isCell 32 = .ok (.iconst 1, 1) := dk_4 (dk_at dksX1_isCell_1 8 rfl rfl)
theorem dX1_isCell_33 : decode cX1_isCell 33 = .ok (.goto 4, 3) := dk_167 0 4 (dk_at dksX1_isCell_1 9 rfl rfl)
theorem dX1_isCell_36 : decode cX1_isCell 36 = .ok (.iconst 0, 1) := dk_3 (dk_at dksX1_isCell_1 12 rfl rfl)
theorem dX1_isCell_37 : decode cX1_isCell 37 = .ok (.ireturn, 1) := dk_172 (dk_at dksX1_isCell_1 13 rfl rfl)
abbrev cX1_hasCap : ByteArray := prog_12_method_7_code
def yX1_hasCap : MethodName := ⟨RX1, "hasCap", "(I)Z"⟩
def dkwX1_hasCap_0 : List UInt8 := [42, 27, 182, 0, 113, 153, 0, 17, 42, 180, 0, 15, 27, 46, 2, 159, 0, 7, 4, 167, 0, 4, 3, 172]
abbrev dktX1_hasCap_0 : List UInt8 := dkwX1_hasCap_0 ++ []
theorem dksX1_hasCap_0 : cX1_hasCap.data.toList.drop 0 = dktX1_hasCap_0 := by decide +kernel
theorem dX1_hasCap_0 : decode cX1_hasCap 0 = .ok (.aload_n 0, 1) := dk_42 (dk_at dksX1_hasCap_0 0 rfl rfl)
theorem dX1_hasCap_1 : decode cX1_hasCap 1 = .ok (.iload_n 1, 1) := dk_27 (dk_at dksX1_hasCap_0 1 rfl rfl)
theorem dX1_hasCap_2 : decode cX1_hasCap 2 = .ok (.invokevirtual 113, 3) := dk_182 0 113 (dk_at dksX1_hasCap_0 2 rfl rfl)
theorem dX1_hasCap_5 : decode cX1_hasCap 5 = .ok (.ifCond .eq 17, 3) := dk_153 0 17 (dk_at dksX1_hasCap_0 5 rfl rfl)
theorem dX1_hasCap_8 : decode cX1_hasCap 8 = .ok (.aload_n 0, 1) := dk_42 (dk_at dksX1_hasCap_0 8 rfl rfl)
theorem dX1_hasCap_9 : decode cX1_hasCap 9 = .ok (.getfield 15, 3) := dk_180 0 15 (dk_at dksX1_hasCap_0 9 rfl rfl)
theorem dX1_hasCap_12 : decode cX1_hasCap 12 = .ok (.iload_n 1, 1) := dk_27 (dk_at dksX1_hasCap_0 12 rfl rfl)
theorem dX1_hasCap_13 : decode cX1_hasCap 13 = .ok (.iaload, 1) := dk_46 (dk_at dksX1_hasCap_0 13 rfl rfl)
theorem dX1_hasCap_14 : decode cX1_hasCap 14 = .ok (.iconst (-1), 1) := dk_2 (dk_at dksX1_hasCap_0 14 rfl rfl)
theorem dX1_hasCap_15 : decode cX1_hasCap 15 = .ok (.if_icmp .eq 7, 3) := dk_159 0 7 (dk_at dksX1_hasCap_0 15 rfl rfl)
theorem dX1_hasCap_18 : decode cX1_hasCap 18 = .ok (.iconst 1, 1) := dk_4 (dk_at dksX1_hasCap_0 18 rfl rfl)
theorem dX1_hasCap_19 : decode cX1_hasCap 19 = .ok (.goto 4, 3) := dk_167 0 4 (dk_at dksX1_hasCap_0 19 rfl rfl)
theorem dX1_hasCap_22 : decode cX1_hasCap 22 = .ok (.iconst 0, 1) := dk_3 (dk_at dksX1_hasCap_0 22 rfl rfl)
theorem dX1_hasCap_23 : decode cX1_hasCap 23 = .ok (.ireturn, 1) := dk_172 (dk_at dksX1_hasCap_0 23 rfl rfl)
abbrev cX1_endsDay : ByteArray := prog_12_method_15_code
def yX1_endsDay : MethodName := ⟨RX1, "endsDay", "()I"⟩
def dkwX1_endsDay_8 : List UInt8 := [42, 89, 180, 0, 69, 4, 96, 181, 0, 69, 27, 172]
abbrev dktX1_endsDay_8 : List UInt8 := dkwX1_endsDay_8 ++ []
def dkwX1_endsDay_7 : List UInt8 := [3, 42, 180, 0, 46, 29, 50, 180, 0, 180, 4, 100, 184, 0, 158, 181, 0, 180, 132, 3, 1, 167, 255, 221]
abbrev dktX1_endsDay_7 : List UInt8 := dkwX1_endsDay_7 ++ dktX1_endsDay_8
def dkwX1_endsDay_6 : List UInt8 := [181, 0, 81, 42, 3, 181, 0, 84, 3, 62, 29, 42, 180, 0, 75, 162, 0, 33, 42, 180, 0, 46, 29, 50]
abbrev dktX1_endsDay_6 : List UInt8 := dkwX1_endsDay_6 ++ dktX1_endsDay_7
def dkwX1_endsDay_5 : List UInt8 := [158, 0, 21, 42, 17, 3, 232, 182, 0, 170, 42, 180, 0, 90, 162, 0, 7, 4, 167, 0, 4, 3]
abbrev dktX1_endsDay_5 : List UInt8 := dkwX1_endsDay_5 ++ dktX1_endsDay_6
def dkwX1_endsDay_4 : List UInt8 := [167, 0, 4, 3, 61, 42, 28, 153, 0, 7, 8, 167, 0, 4, 2, 182, 0, 176, 42, 42, 180, 0, 90]
abbrev dktX1_endsDay_4 : List UInt8 := dkwX1_endsDay_4 ++ dktX1_endsDay_5
def dkwX1_endsDay_3 : List UInt8 := [17, 3, 232, 182, 0, 170, 42, 180, 0, 87, 16, 50, 42, 180, 0, 84, 104, 96, 162, 0, 7, 4]
abbrev dktX1_endsDay_3 : List UInt8 := dkwX1_endsDay_3 ++ dktX1_endsDay_4
def dkwX1_endsDay_2 : List UInt8 := [182, 0, 173, 2, 79, 4, 60, 42, 180, 0, 87, 157, 0, 10, 42, 180, 0, 84, 158, 0, 29, 42]
abbrev dktX1_endsDay_2 : List UInt8 := dkwX1_endsDay_2 ++ dktX1_endsDay_3
def dkwX1_endsDay_1 : List UInt8 := [182, 0, 170, 42, 180, 0, 93, 162, 0, 23, 42, 180, 0, 15, 42, 42, 42, 182, 0, 167, 182, 0, 170]
abbrev dktX1_endsDay_1 : List UInt8 := dkwX1_endsDay_1 ++ dktX1_endsDay_2
def dkwX1_endsDay_0 : List UInt8 := [3, 60, 42, 182, 0, 164, 42, 180, 0, 93, 158, 0, 44, 42, 182, 0, 167, 158, 0, 37, 42, 17, 3, 232]
abbrev dktX1_endsDay_0 : List UInt8 := dkwX1_endsDay_0 ++ dktX1_endsDay_1
theorem dksX1_endsDay_0 : cX1_endsDay.data.toList.drop 0 = dktX1_endsDay_0 := by decide +kernel
theorem dksX1_endsDay_1 : cX1_endsDay.data.toList.drop 24 = dktX1_endsDay_1 := dk_seg dksX1_endsDay_0 24 rfl rfl
theorem dksX1_endsDay_2 : cX1_endsDay.data.toList.drop 47 = dktX1_endsDay_2 := dk_seg dksX1_endsDay_1 23 rfl rfl
theorem dksX1_endsDay_3 : cX1_endsDay.data.toList.drop 69 = dktX1_endsDay_3 := dk_seg dksX1_endsDay_2 22 rfl rfl
theorem dksX1_endsDay_4 : cX1_endsDay.data.toList.drop 91 = dktX1_endsDay_4 := dk_seg dksX1_endsDay_3 22 rfl rfl
theorem dksX1_endsDay_5 : cX1_endsDay.data.toList.drop 114 = dktX1_endsDay_5 := dk_seg dksX1_endsDay_4 23 rfl rfl
theorem dksX1_endsDay_6 : cX1_endsDay.data.toList.drop 136 = dktX1_endsDay_6 := dk_seg dksX1_endsDay_5 22 rfl rfl
theorem dksX1_endsDay_7 : cX1_endsDay.data.toList.drop 160 = dktX1_endsDay_7 := dk_seg dksX1_endsDay_6 24 rfl rfl
theorem dksX1_endsDay_8 : cX1_endsDay.data.toList.drop 184 = dktX1_endsDay_8 := dk_seg dksX1_endsDay_7 24 rfl rfl
theorem dX1_endsDay_0 : decode cX1_endsDay 0 = .ok (.iconst 0, 1) := dk_3 (dk_at dksX1_endsDay_0 0 rfl rfl)
theorem dX1_endsDay_1 : decode cX1_endsDay 1 = .ok (.istore_n 1, 1) := dk_60 (dk_at dksX1_endsDay_0 1 rfl rfl)
theorem dX1_endsDay_2 : decode cX1_endsDay 2 = .ok (.aload_n 0, 1) := dk_42 (dk_at dksX1_endsDay_0 2 rfl rfl)
theorem dX1_endsDay_3 : decode cX1_endsDay 3 = .ok (.invokevirtual 164, 3) := dk_182 0 164 (dk_at dksX1_endsDay_0 3 rfl rfl)
theorem dX1_endsDay_6 : decode cX1_endsDay 6 = .ok (.aload_n 0, 1) := dk_42 (dk_at dksX1_endsDay_0 6 rfl rfl)
theorem dX1_endsDay_7 : decode cX1_endsDay 7 = .ok (.getfield 93, 3) := dk_180 0 93 (dk_at dksX1_endsDay_0 7 rfl rfl)
theorem dX1_endsDay_10 : decode cX1_endsDay 10 = .ok (.ifCond .le 44, 3) := dk_158 0 44 (dk_at dksX1_endsDay_0 10 rfl rfl)
theorem dX1_endsDay_13 : decode cX1_endsDay 13 = .ok (.aload_n 0, 1) := dk_42 (dk_at dksX1_endsDay_0 13 rfl rfl)
theorem dX1_endsDay_14 : decode cX1_endsDay 14 = .ok (.invokevirtual 167, 3) := dk_182 0 167 (dk_at dksX1_endsDay_0 14 rfl rfl)
theorem dX1_endsDay_17 : decode cX1_endsDay 17 = .ok (.ifCond .le 37, 3) := dk_158 0 37 (dk_at dksX1_endsDay_0 17 rfl rfl)
theorem dX1_endsDay_20 : decode cX1_endsDay 20 = .ok (.aload_n 0, 1) := dk_42 (dk_at dksX1_endsDay_0 20 rfl rfl)
theorem dX1_endsDay_21 : decode cX1_endsDay 21 = .ok (.sipush 1000, 3) := dk_17 3 232 (dk_at dksX1_endsDay_0 21 rfl rfl)
theorem dX1_endsDay_24 : decode cX1_endsDay 24 = .ok (.invokevirtual 170, 3) := dk_182 0 170 (dk_at dksX1_endsDay_1 0 rfl rfl)
theorem dX1_endsDay_27 : decode cX1_endsDay 27 = .ok (.aload_n 0, 1) := dk_42 (dk_at dksX1_endsDay_1 3 rfl rfl)
theorem dX1_endsDay_28 : decode cX1_endsDay 28 = .ok (.getfield 93, 3) := dk_180 0 93 (dk_at dksX1_endsDay_1 4 rfl rfl)
theorem dX1_endsDay_31 : decode cX1_endsDay 31 = .ok (.if_icmp .ge 23, 3) := dk_162 0 23 (dk_at dksX1_endsDay_1 7 rfl rfl)
theorem dX1_endsDay_34 : decode cX1_endsDay 34 = .ok (.aload_n 0, 1) := dk_42 (dk_at dksX1_endsDay_1 10 rfl rfl)
theorem dX1_endsDay_35 : decode cX1_endsDay 35 = .ok (.getfield 15, 3) := dk_180 0 15 (dk_at dksX1_endsDay_1 11 rfl rfl)
theorem dX1_endsDay_38 : decode cX1_endsDay 38 = .ok (.aload_n 0, 1) := dk_42 (dk_at dksX1_endsDay_1 14 rfl rfl)
theorem dX1_endsDay_39 : decode cX1_endsDay 39 = .ok (.aload_n 0, 1) := dk_42 (dk_at dksX1_endsDay_1 15 rfl rfl)
theorem dX1_endsDay_40 : decode cX1_endsDay 40 = .ok (.aload_n 0, 1) := dk_42 (dk_at dksX1_endsDay_1 16 rfl rfl)
theorem dX1_endsDay_41 : decode cX1_endsDay 41 = .ok (.invokevirtual 167, 3) := dk_182 0 167 (dk_at dksX1_endsDay_1 17 rfl rfl)
theorem dX1_endsDay_44 : decode cX1_endsDay 44 = .ok (.invokevirtual 170, 3) := dk_182 0 170 (dk_at dksX1_endsDay_1 20 rfl rfl)
theorem dX1_endsDay_47 : decode cX1_endsDay 47 = .ok (.invokevirtual 173, 3) := dk_182 0 173 (dk_at dksX1_endsDay_2 0 rfl rfl)
theorem dX1_endsDay_50 : decode cX1_endsDay 50 = .ok (.iconst (-1), 1) := dk_2 (dk_at dksX1_endsDay_2 3 rfl rfl)
theorem dX1_endsDay_51 : decode cX1_endsDay 51 = .ok (.iastore, 1) := dk_79 (dk_at dksX1_endsDay_2 4 rfl rfl)
theorem dX1_endsDay_52 : decode cX1_endsDay 52 = .ok (.iconst 1, 1) := dk_4 (dk_at dksX1_endsDay_2 5 rfl rfl)
theorem dX1_endsDay_53 : decode cX1_endsDay 53 = .ok (.istore_n 1, 1) := dk_60 (dk_at dksX1_endsDay_2 6 rfl rfl)
theorem dX1_endsDay_54 : decode cX1_endsDay 54 = .ok (.aload_n 0, 1) := dk_42 (dk_at dksX1_endsDay_2 7 rfl rfl)
theorem dX1_endsDay_55 : decode cX1_endsDay 55 = .ok (.getfield 87, 3) := dk_180 0 87 (dk_at dksX1_endsDay_2 8 rfl rfl)
theorem dX1_endsDay_58 : decode cX1_endsDay 58 = .ok (.ifCond .gt 10, 3) := dk_157 0 10 (dk_at dksX1_endsDay_2 11 rfl rfl)
theorem dX1_endsDay_61 : decode cX1_endsDay 61 = .ok (.aload_n 0, 1) := dk_42 (dk_at dksX1_endsDay_2 14 rfl rfl)
theorem dX1_endsDay_62 : decode cX1_endsDay 62 = .ok (.getfield 84, 3) := dk_180 0 84 (dk_at dksX1_endsDay_2 15 rfl rfl)
theorem dX1_endsDay_65 : decode cX1_endsDay 65 = .ok (.ifCond .le 29, 3) := dk_158 0 29 (dk_at dksX1_endsDay_2 18 rfl rfl)
theorem dX1_endsDay_68 : decode cX1_endsDay 68 = .ok (.aload_n 0, 1) := dk_42 (dk_at dksX1_endsDay_2 21 rfl rfl)
theorem dX1_endsDay_69 : decode cX1_endsDay 69 = .ok (.sipush 1000, 3) := dk_17 3 232 (dk_at dksX1_endsDay_3 0 rfl rfl)
theorem dX1_endsDay_72 : decode cX1_endsDay 72 = .ok (.invokevirtual 170, 3) := dk_182 0 170 (dk_at dksX1_endsDay_3 3 rfl rfl)
theorem dX1_endsDay_75 : decode cX1_endsDay 75 = .ok (.aload_n 0, 1) := dk_42 (dk_at dksX1_endsDay_3 6 rfl rfl)
theorem dX1_endsDay_76 : decode cX1_endsDay 76 = .ok (.getfield 87, 3) := dk_180 0 87 (dk_at dksX1_endsDay_3 7 rfl rfl)
theorem dX1_endsDay_79 : decode cX1_endsDay 79 = .ok (.bipush 50, 2) := dk_16 50 (dk_at dksX1_endsDay_3 10 rfl rfl)
theorem dX1_endsDay_81 : decode cX1_endsDay 81 = .ok (.aload_n 0, 1) := dk_42 (dk_at dksX1_endsDay_3 12 rfl rfl)
theorem dX1_endsDay_82 : decode cX1_endsDay 82 = .ok (.getfield 84, 3) := dk_180 0 84 (dk_at dksX1_endsDay_3 13 rfl rfl)
theorem dX1_endsDay_85 : decode cX1_endsDay 85 = .ok (.imul, 1) := dk_104 (dk_at dksX1_endsDay_3 16 rfl rfl)
theorem dX1_endsDay_86 : decode cX1_endsDay 86 = .ok (.iadd, 1) := dk_96 (dk_at dksX1_endsDay_3 17 rfl rfl)
theorem dX1_endsDay_87 : decode cX1_endsDay 87 = .ok (.if_icmp .ge 7, 3) := dk_162 0 7 (dk_at dksX1_endsDay_3 18 rfl rfl)
theorem dX1_endsDay_90 : decode cX1_endsDay 90 = .ok (.iconst 1, 1) := dk_4 (dk_at dksX1_endsDay_3 21 rfl rfl)
theorem dX1_endsDay_91 : decode cX1_endsDay 91 = .ok (.goto 4, 3) := dk_167 0 4 (dk_at dksX1_endsDay_4 0 rfl rfl)
theorem dX1_endsDay_94 : decode cX1_endsDay 94 = .ok (.iconst 0, 1) := dk_3 (dk_at dksX1_endsDay_4 3 rfl rfl)
theorem dX1_endsDay_95 : decode cX1_endsDay 95 = .ok (.istore_n 2, 1) := dk_61 (dk_at dksX1_endsDay_4 4 rfl rfl)
theorem dX1_endsDay_96 : decode cX1_endsDay 96 = .ok (.aload_n 0, 1) := dk_42 (dk_at dksX1_endsDay_4 5 rfl rfl)
theorem dX1_endsDay_97 : decode cX1_endsDay 97 = .ok (.iload_n 2, 1) := dk_28 (dk_at dksX1_endsDay_4 6 rfl rfl)
theorem dX1_endsDay_98 : decode cX1_endsDay 98 = .ok (.ifCond .eq 7, 3) := dk_153 0 7 (dk_at dksX1_endsDay_4 7 rfl rfl)
theorem dX1_endsDay_101 : decode cX1_endsDay 101 = .ok (.iconst 5, 1) := dk_8 (dk_at dksX1_endsDay_4 10 rfl rfl)
theorem dX1_endsDay_102 : decode cX1_endsDay 102 = .ok (.goto 4, 3) := dk_167 0 4 (dk_at dksX1_endsDay_4 11 rfl rfl)
theorem dX1_endsDay_105 : decode cX1_endsDay 105 = .ok (.iconst (-1), 1) := dk_2 (dk_at dksX1_endsDay_4 14 rfl rfl)
theorem dX1_endsDay_106 : decode cX1_endsDay 106 = .ok (.invokevirtual 176, 3) := dk_182 0 176 (dk_at dksX1_endsDay_4 15 rfl rfl)
theorem dX1_endsDay_109 : decode cX1_endsDay 109 = .ok (.aload_n 0, 1) := dk_42 (dk_at dksX1_endsDay_4 18 rfl rfl)
theorem dX1_endsDay_110 : decode cX1_endsDay 110 = .ok (.aload_n 0, 1) := dk_42 (dk_at dksX1_endsDay_4 19 rfl rfl)
theorem dX1_endsDay_111 : decode cX1_endsDay 111 = .ok (.getfield 90, 3) := dk_180 0 90 (dk_at dksX1_endsDay_4 20 rfl rfl)
theorem dX1_endsDay_114 : decode cX1_endsDay 114 = .ok (.ifCond .le 21, 3) := dk_158 0 21 (dk_at dksX1_endsDay_5 0 rfl rfl)
theorem dX1_endsDay_117 : decode cX1_endsDay 117 = .ok (.aload_n 0, 1) := dk_42 (dk_at dksX1_endsDay_5 3 rfl rfl)
theorem dX1_endsDay_118 : decode cX1_endsDay 118 = .ok (.sipush 1000, 3) := dk_17 3 232 (dk_at dksX1_endsDay_5 4 rfl rfl)
theorem dX1_endsDay_121 : decode cX1_endsDay 121 = .ok (.invokevirtual 170, 3) := dk_182 0 170 (dk_at dksX1_endsDay_5 7 rfl rfl)
theorem dX1_endsDay_124 : decode cX1_endsDay 124 = .ok (.aload_n 0, 1) := dk_42 (dk_at dksX1_endsDay_5 10 rfl rfl)
theorem dX1_endsDay_125 : decode cX1_endsDay 125 = .ok (.getfield 90, 3) := dk_180 0 90 (dk_at dksX1_endsDay_5 11 rfl rfl)
theorem dX1_endsDay_128 : decode cX1_endsDay 128 = .ok (.if_icmp .ge 7, 3) := dk_162 0 7 (dk_at dksX1_endsDay_5 14 rfl rfl)
theorem dX1_endsDay_131 : decode cX1_endsDay 131 = .ok (.iconst 1, 1) := dk_4 (dk_at dksX1_endsDay_5 17 rfl rfl)
theorem dX1_endsDay_132 : decode cX1_endsDay 132 = .ok (.goto 4, 3) := dk_167 0 4 (dk_at dksX1_endsDay_5 18 rfl rfl)
theorem dX1_endsDay_135 : decode cX1_endsDay 135 = .ok (.iconst 0, 1) := dk_3 (dk_at dksX1_endsDay_5 21 rfl rfl)
theorem dX1_endsDay_136 : decode cX1_endsDay 136 = .ok (.putfield 81, 3) := dk_181 0 81 (dk_at dksX1_endsDay_6 0 rfl rfl)
theorem dX1_endsDay_139 : decode cX1_endsDay 139 = .ok (.aload_n 0, 1) := dk_42 (dk_at dksX1_endsDay_6 3 rfl rfl)
theorem dX1_endsDay_140 : decode cX1_endsDay 140 = .ok (.iconst 0, 1) := dk_3 (dk_at dksX1_endsDay_6 4 rfl rfl)
theorem dX1_endsDay_141 : decode cX1_endsDay 141 = .ok (.putfield 84, 3) := dk_181 0 84 (dk_at dksX1_endsDay_6 5 rfl rfl)
theorem dX1_endsDay_144 : decode cX1_endsDay 144 = .ok (.iconst 0, 1) := dk_3 (dk_at dksX1_endsDay_6 8 rfl rfl)
theorem dX1_endsDay_145 : decode cX1_endsDay 145 = .ok (.istore_n 3, 1) := dk_62 (dk_at dksX1_endsDay_6 9 rfl rfl)
theorem dX1_endsDay_146 : decode cX1_endsDay 146 = .ok (.iload_n 3, 1) := dk_29 (dk_at dksX1_endsDay_6 10 rfl rfl)
theorem dX1_endsDay_147 : decode cX1_endsDay 147 = .ok (.aload_n 0, 1) := dk_42 (dk_at dksX1_endsDay_6 11 rfl rfl)
theorem dX1_endsDay_148 : decode cX1_endsDay 148 = .ok (.getfield 75, 3) := dk_180 0 75 (dk_at dksX1_endsDay_6 12 rfl rfl)
theorem dX1_endsDay_151 : decode cX1_endsDay 151 = .ok (.if_icmp .ge 33, 3) := dk_162 0 33 (dk_at dksX1_endsDay_6 15 rfl rfl)
theorem dX1_endsDay_154 : decode cX1_endsDay 154 = .ok (.aload_n 0, 1) := dk_42 (dk_at dksX1_endsDay_6 18 rfl rfl)
theorem dX1_endsDay_155 : decode cX1_endsDay 155 = .ok (.getfield 46, 3) := dk_180 0 46 (dk_at dksX1_endsDay_6 19 rfl rfl)
theorem dX1_endsDay_158 : decode cX1_endsDay 158 = .ok (.iload_n 3, 1) := dk_29 (dk_at dksX1_endsDay_6 22 rfl rfl)
theorem dX1_endsDay_159 : decode cX1_endsDay 159 = .ok (.aaload, 1) := dk_50 (dk_at dksX1_endsDay_6 23 rfl rfl)
theorem dX1_endsDay_160 : decode cX1_endsDay 160 = .ok (.iconst 0, 1) := dk_3 (dk_at dksX1_endsDay_7 0 rfl rfl)
theorem dX1_endsDay_161 : decode cX1_endsDay 161 = .ok (.aload_n 0, 1) := dk_42 (dk_at dksX1_endsDay_7 1 rfl rfl)
theorem dX1_endsDay_162 : decode cX1_endsDay 162 = .ok (.getfield 46, 3) := dk_180 0 46 (dk_at dksX1_endsDay_7 2 rfl rfl)
theorem dX1_endsDay_165 : decode cX1_endsDay 165 = .ok (.iload_n 3, 1) := dk_29 (dk_at dksX1_endsDay_7 5 rfl rfl)
theorem dX1_endsDay_166 : decode cX1_endsDay 166 = .ok (.aaload, 1) := dk_50 (dk_at dksX1_endsDay_7 6 rfl rfl)
theorem dX1_endsDay_167 : decode cX1_endsDay 167 = .ok (.getfield 180, 3) := dk_180 0 180 (dk_at dksX1_endsDay_7 7 rfl rfl)
theorem dX1_endsDay_170 : decode cX1_endsDay 170 = .ok (.iconst 1, 1) := dk_4 (dk_at dksX1_endsDay_7 10 rfl rfl)
theorem dX1_endsDay_171 : decode cX1_endsDay 171 = .ok (.isub, 1) := dk_100 (dk_at dksX1_endsDay_7 11 rfl rfl)
theorem dX1_endsDay_172 : decode cX1_endsDay 172 = .ok (.invokestatic 158, 3) := dk_184 0 158 (dk_at dksX1_endsDay_7 12 rfl rfl)
theorem dX1_endsDay_175 : decode cX1_endsDay 175 = .ok (.putfield 180, 3) := dk_181 0 180 (dk_at dksX1_endsDay_7 15 rfl rfl)
theorem dX1_endsDay_178 : decode cX1_endsDay 178 = .ok (.iinc 3 1, 3) := dk_132 3 1 (dk_at dksX1_endsDay_7 18 rfl rfl)
theorem dX1_endsDay_181 : decode cX1_endsDay 181 = .ok (.goto (-35), 3) := dk_167 255 221 (dk_at dksX1_endsDay_7 21 rfl rfl)
theorem dX1_endsDay_184 : decode cX1_endsDay 184 = .ok (.aload_n 0, 1) := dk_42 (dk_at dksX1_endsDay_8 0 rfl rfl)
theorem dX1_endsDay_185 : decode cX1_endsDay 185 = .ok (.dup, 1) := dk_89 (dk_at dksX1_endsDay_8 1 rfl rfl)
theorem dX1_endsDay_186 : decode cX1_endsDay 186 = .ok (.getfield 69, 3) := dk_180 0 69 (dk_at dksX1_endsDay_8 2 rfl rfl)
theorem dX1_endsDay_189 : decode cX1_endsDay 189 = .ok (.iconst 1, 1) := dk_4 (dk_at dksX1_endsDay_8 5 rfl rfl)
theorem dX1_endsDay_190 : decode cX1_endsDay 190 = .ok (.iadd, 1) := dk_96 (dk_at dksX1_endsDay_8 6 rfl rfl)
theorem dX1_endsDay_191 : decode cX1_endsDay 191 = .ok (.putfield 69, 3) := dk_181 0 69 (dk_at dksX1_endsDay_8 7 rfl rfl)
theorem dX1_endsDay_194 : decode cX1_endsDay 194 = .ok (.iload_n 1, 1) := dk_27 (dk_at dksX1_endsDay_8 10 rfl rfl)
theorem dX1_endsDay_195 : decode cX1_endsDay 195 = .ok (.ireturn, 1) := dk_172 (dk_at dksX1_endsDay_8 11 rfl rfl)
abbrev cX1_allGrow : ByteArray := prog_12_method_11_code
def yX1_allGrow : MethodName := ⟨RX1, "allGrow", "()V"⟩
def dkwX1_allGrow_3 : List UInt8 := [180, 0, 27, 27, 46, 96, 184, 0, 153, 184, 0, 158, 79, 132, 1, 1, 167, 255, 210, 177]
abbrev dktX1_allGrow_3 : List UInt8 := dkwX1_allGrow_3 ++ []
def dkwX1_allGrow_2 : List UInt8 := [182, 0, 117, 153, 0, 32, 42, 180, 0, 18, 27, 3, 17, 3, 231, 42, 180, 0, 18, 27, 46, 42]
abbrev dktX1_allGrow_2 : List UInt8 := dkwX1_allGrow_2 ++ dktX1_allGrow_3
def dkwX1_allGrow_1 : List UInt8 := [182, 0, 161, 167, 0, 4, 3, 79, 132, 1, 1, 167, 255, 224, 3, 60, 27, 16, 64, 162, 0, 46, 42, 27]
abbrev dktX1_allGrow_1 : List UInt8 := dkwX1_allGrow_1 ++ dktX1_allGrow_2
def dkwX1_allGrow_0 : List UInt8 := [3, 60, 27, 16, 64, 162, 0, 32, 42, 180, 0, 27, 27, 42, 27, 182, 0, 117, 153, 0, 11, 42, 27]
abbrev dktX1_allGrow_0 : List UInt8 := dkwX1_allGrow_0 ++ dktX1_allGrow_1
theorem dksX1_allGrow_0 : cX1_allGrow.data.toList.drop 0 = dktX1_allGrow_0 := by decide +kernel
theorem dksX1_allGrow_1 : cX1_allGrow.data.toList.drop 23 = dktX1_allGrow_1 := dk_seg dksX1_allGrow_0 23 rfl rfl
theorem dksX1_allGrow_2 : cX1_allGrow.data.toList.drop 47 = dktX1_allGrow_2 := dk_seg dksX1_allGrow_1 24 rfl rfl
theorem dksX1_allGrow_3 : cX1_allGrow.data.toList.drop 69 = dktX1_allGrow_3 := dk_seg dksX1_allGrow_2 22 rfl rfl
theorem dX1_allGrow_0 : decode cX1_allGrow 0 = .ok (.iconst 0, 1) := dk_3 (dk_at dksX1_allGrow_0 0 rfl rfl)
theorem dX1_allGrow_1 : decode cX1_allGrow 1 = .ok (.istore_n 1, 1) := dk_60 (dk_at dksX1_allGrow_0 1 rfl rfl)
theorem dX1_allGrow_2 : decode cX1_allGrow 2 = .ok (.iload_n 1, 1) := dk_27 (dk_at dksX1_allGrow_0 2 rfl rfl)
theorem dX1_allGrow_3 : decode cX1_allGrow 3 = .ok (.bipush 64, 2) := dk_16 64 (dk_at dksX1_allGrow_0 3 rfl rfl)
theorem dX1_allGrow_5 : decode cX1_allGrow 5 = .ok (.if_icmp .ge 32, 3) := dk_162 0 32 (dk_at dksX1_allGrow_0 5 rfl rfl)
theorem dX1_allGrow_8 : decode cX1_allGrow 8 = .ok (.aload_n 0, 1) := dk_42 (dk_at dksX1_allGrow_0 8 rfl rfl)
theorem dX1_allGrow_9 : decode cX1_allGrow 9 = .ok (.getfield 27, 3) := dk_180 0 27 (dk_at dksX1_allGrow_0 9 rfl rfl)
theorem dX1_allGrow_12 : decode cX1_allGrow 12 = .ok (.iload_n 1, 1) := dk_27 (dk_at dksX1_allGrow_0 12 rfl rfl)
theorem dX1_allGrow_13 : decode cX1_allGrow 13 = .ok (.aload_n 0, 1) := dk_42 (dk_at dksX1_allGrow_0 13 rfl rfl)
theorem dX1_allGrow_14 : decode cX1_allGrow 14 = .ok (.iload_n 1, 1) := dk_27 (dk_at dksX1_allGrow_0 14 rfl rfl)
theorem dX1_allGrow_15 : decode cX1_allGrow 15 = .ok (.invokevirtual 117, 3) := dk_182 0 117 (dk_at dksX1_allGrow_0 15 rfl rfl)
theorem dX1_allGrow_18 : decode cX1_allGrow 18 = .ok (.ifCond .eq 11, 3) := dk_153 0 11 (dk_at dksX1_allGrow_0 18 rfl rfl)
theorem dX1_allGrow_21 : decode cX1_allGrow 21 = .ok (.aload_n 0, 1) := dk_42 (dk_at dksX1_allGrow_0 21 rfl rfl)
theorem dX1_allGrow_22 : decode cX1_allGrow 22 = .ok (.iload_n 1, 1) := dk_27 (dk_at dksX1_allGrow_0 22 rfl rfl)
theorem dX1_allGrow_23 : decode cX1_allGrow 23 = .ok (.invokevirtual 161, 3) := dk_182 0 161 (dk_at dksX1_allGrow_1 0 rfl rfl)
theorem dX1_allGrow_26 : decode cX1_allGrow 26 = .ok (.goto 4, 3) := dk_167 0 4 (dk_at dksX1_allGrow_1 3 rfl rfl)
theorem dX1_allGrow_29 : decode cX1_allGrow 29 = .ok (.iconst 0, 1) := dk_3 (dk_at dksX1_allGrow_1 6 rfl rfl)
theorem dX1_allGrow_30 : decode cX1_allGrow 30 = .ok (.iastore, 1) := dk_79 (dk_at dksX1_allGrow_1 7 rfl rfl)
theorem dX1_allGrow_31 : decode cX1_allGrow 31 = .ok (.iinc 1 1, 3) := dk_132 1 1 (dk_at dksX1_allGrow_1 8 rfl rfl)
theorem dX1_allGrow_34 : decode cX1_allGrow 34 = .ok (.goto (-32), 3) := dk_167 255 224 (dk_at dksX1_allGrow_1 11 rfl rfl)
theorem dX1_allGrow_37 : decode cX1_allGrow 37 = .ok (.iconst 0, 1) := dk_3 (dk_at dksX1_allGrow_1 14 rfl rfl)
theorem dX1_allGrow_38 : decode cX1_allGrow 38 = .ok (.istore_n 1, 1) := dk_60 (dk_at dksX1_allGrow_1 15 rfl rfl)
theorem dX1_allGrow_39 : decode cX1_allGrow 39 = .ok (.iload_n 1, 1) := dk_27 (dk_at dksX1_allGrow_1 16 rfl rfl)
theorem dX1_allGrow_40 : decode cX1_allGrow 40 = .ok (.bipush 64, 2) := dk_16 64 (dk_at dksX1_allGrow_1 17 rfl rfl)
theorem dX1_allGrow_42 : decode cX1_allGrow 42 = .ok (.if_icmp .ge 46, 3) := dk_162 0 46 (dk_at dksX1_allGrow_1 19 rfl rfl)
theorem dX1_allGrow_45 : decode cX1_allGrow 45 = .ok (.aload_n 0, 1) := dk_42 (dk_at dksX1_allGrow_1 22 rfl rfl)
theorem dX1_allGrow_46 : decode cX1_allGrow 46 = .ok (.iload_n 1, 1) := dk_27 (dk_at dksX1_allGrow_1 23 rfl rfl)
theorem dX1_allGrow_47 : decode cX1_allGrow 47 = .ok (.invokevirtual 117, 3) := dk_182 0 117 (dk_at dksX1_allGrow_2 0 rfl rfl)
theorem dX1_allGrow_50 : decode cX1_allGrow 50 = .ok (.ifCond .eq 32, 3) := dk_153 0 32 (dk_at dksX1_allGrow_2 3 rfl rfl)
theorem dX1_allGrow_53 : decode cX1_allGrow 53 = .ok (.aload_n 0, 1) := dk_42 (dk_at dksX1_allGrow_2 6 rfl rfl)
theorem dX1_allGrow_54 : decode cX1_allGrow 54 = .ok (.getfield 18, 3) := dk_180 0 18 (dk_at dksX1_allGrow_2 7 rfl rfl)
theorem dX1_allGrow_57 : decode cX1_allGrow 57 = .ok (.iload_n 1, 1) := dk_27 (dk_at dksX1_allGrow_2 10 rfl rfl)
theorem dX1_allGrow_58 : decode cX1_allGrow 58 = .ok (.iconst 0, 1) := dk_3 (dk_at dksX1_allGrow_2 11 rfl rfl)
theorem dX1_allGrow_59 : decode cX1_allGrow 59 = .ok (.sipush 999, 3) := dk_17 3 231 (dk_at dksX1_allGrow_2 12 rfl rfl)
theorem dX1_allGrow_62 : decode cX1_allGrow 62 = .ok (.aload_n 0, 1) := dk_42 (dk_at dksX1_allGrow_2 15 rfl rfl)
theorem dX1_allGrow_63 : decode cX1_allGrow 63 = .ok (.getfield 18, 3) := dk_180 0 18 (dk_at dksX1_allGrow_2 16 rfl rfl)
theorem dX1_allGrow_66 : decode cX1_allGrow 66 = .ok (.iload_n 1, 1) := dk_27 (dk_at dksX1_allGrow_2 19 rfl rfl)
theorem dX1_allGrow_67 : decode cX1_allGrow 67 = .ok (.iaload, 1) := dk_46 (dk_at dksX1_allGrow_2 20 rfl rfl)
theorem dX1_allGrow_68 : decode cX1_allGrow 68 = .ok (.aload_n 0, 1) := dk_42 (dk_at dksX1_allGrow_2 21 rfl rfl)
theorem dX1_allGrow_69 : decode cX1_allGrow 69 = .ok (.getfield 27, 3) := dk_180 0 27 (dk_at dksX1_allGrow_3 0 rfl rfl)
theorem dX1_allGrow_72 : decode cX1_allGrow 72 = .ok (.iload_n 1, 1) := dk_27 (dk_at dksX1_allGrow_3 3 rfl rfl)
theorem dX1_allGrow_73 : decode cX1_allGrow 73 = .ok (.iaload, 1) := dk_46 (dk_at dksX1_allGrow_3 4 rfl rfl)
theorem dX1_allGrow_74 : decode cX1_allGrow 74 = .ok (.iadd, 1) := dk_96 (dk_at dksX1_allGrow_3 5 rfl rfl)
theorem dX1_allGrow_75 : decode cX1_allGrow 75 = .ok (.invokestatic 153, 3) := dk_184 0 153 (dk_at dksX1_allGrow_3 6 rfl rfl)
theorem dX1_allGrow_78 : decode cX1_allGrow 78 = .ok (.invokestatic 158, 3) := dk_184 0 158 (dk_at dksX1_allGrow_3 9 rfl rfl)
theorem dX1_allGrow_81 : decode cX1_allGrow 81 = .ok (.iastore, 1) := dk_79 (dk_at dksX1_allGrow_3 12 rfl rfl)
theorem dX1_allGrow_82 : decode cX1_allGrow 82 = .ok (.iinc 1 1, 3) := dk_132 1 1 (dk_at dksX1_allGrow_3 13 rfl rfl)
theorem dX1_allGrow_85 : decode cX1_allGrow 85 = .ok (.goto (-46), 3) := dk_167 255 210 (dk_at dksX1_allGrow_3 16 rfl rfl)
theorem dX1_allGrow_88 : decode cX1_allGrow 88 = .ok (.return_, 1) := dk_177 (dk_at dksX1_allGrow_3 19 rfl rfl)
abbrev cX1_grows : ByteArray := prog_12_method_10_code
def yX1_grows : MethodName := ⟨RX1, "grows", "(I)I"⟩
def dkwX1_grows_3 : List UInt8 := [132, 2, 1, 167, 255, 192, 4, 172]
abbrev dktX1_grows_3 : List UInt8 := dkwX1_grows_3 ++ []
def dkwX1_grows_2 : List UInt8 := [160, 0, 22, 16, 157, 16, 99, 45, 180, 0, 150, 42, 182, 0, 144, 184, 0, 153, 184, 0, 158, 172]
abbrev dktX1_grows_2 : List UInt8 := dkwX1_grows_2 ++ dktX1_grows_3
def dkwX1_grows_1 : List UInt8 := [182, 0, 134, 192, 0, 138, 78, 45, 180, 0, 140, 198, 0, 15, 45, 180, 0, 140, 42, 182, 0, 144, 4]
abbrev dktX1_grows_1 : List UInt8 := dkwX1_grows_1 ++ dktX1_grows_2
def dkwX1_grows_0 : List UInt8 := [42, 27, 181, 0, 120, 3, 61, 28, 42, 180, 0, 53, 182, 0, 131, 162, 0, 59, 42, 180, 0, 53, 28]
abbrev dktX1_grows_0 : List UInt8 := dkwX1_grows_0 ++ dktX1_grows_1
theorem dksX1_grows_0 : cX1_grows.data.toList.drop 0 = dktX1_grows_0 := by decide +kernel
theorem dksX1_grows_1 : cX1_grows.data.toList.drop 23 = dktX1_grows_1 := dk_seg dksX1_grows_0 23 rfl rfl
theorem dksX1_grows_2 : cX1_grows.data.toList.drop 46 = dktX1_grows_2 := dk_seg dksX1_grows_1 23 rfl rfl
theorem dksX1_grows_3 : cX1_grows.data.toList.drop 68 = dktX1_grows_3 := dk_seg dksX1_grows_2 22 rfl rfl
theorem dX1_grows_0 : decode cX1_grows 0 = .ok (.aload_n 0, 1) := dk_42 (dk_at dksX1_grows_0 0 rfl rfl)
theorem dX1_grows_1 : decode cX1_grows 1 = .ok (.iload_n 1, 1) := dk_27 (dk_at dksX1_grows_0 1 rfl rfl)
theorem dX1_grows_2 : decode cX1_grows 2 = .ok (.putfield 120, 3) := dk_181 0 120 (dk_at dksX1_grows_0 2 rfl rfl)
theorem dX1_grows_5 : decode cX1_grows 5 = .ok (.iconst 0, 1) := dk_3 (dk_at dksX1_grows_0 5 rfl rfl)
theorem dX1_grows_6 : decode cX1_grows 6 = .ok (.istore_n 2, 1) := dk_61 (dk_at dksX1_grows_0 6 rfl rfl)
theorem dX1_grows_7 : decode cX1_grows 7 = .ok (.iload_n 2, 1) := dk_28 (dk_at dksX1_grows_0 7 rfl rfl)
theorem dX1_grows_8 : decode cX1_grows 8 = .ok (.aload_n 0, 1) := dk_42 (dk_at dksX1_grows_0 8 rfl rfl)
theorem dX1_grows_9 : decode cX1_grows 9 = .ok (.getfield 53, 3) := dk_180 0 53 (dk_at dksX1_grows_0 9 rfl rfl)
theorem dX1_grows_12 : decode cX1_grows 12 = .ok (.invokevirtual 131, 3) := dk_182 0 131 (dk_at dksX1_grows_0 12 rfl rfl)
theorem dX1_grows_15 : decode cX1_grows 15 = .ok (.if_icmp .ge 59, 3) := dk_162 0 59 (dk_at dksX1_grows_0 15 rfl rfl)
theorem dX1_grows_18 : decode cX1_grows 18 = .ok (.aload_n 0, 1) := dk_42 (dk_at dksX1_grows_0 18 rfl rfl)
theorem dX1_grows_19 : decode cX1_grows 19 = .ok (.getfield 53, 3) := dk_180 0 53 (dk_at dksX1_grows_0 19 rfl rfl)
theorem dX1_grows_22 : decode cX1_grows 22 = .ok (.iload_n 2, 1) := dk_28 (dk_at dksX1_grows_0 22 rfl rfl)
theorem dX1_grows_23 : decode cX1_grows 23 = .ok (.invokevirtual 134, 3) := dk_182 0 134 (dk_at dksX1_grows_1 0 rfl rfl)
theorem dX1_grows_26 : decode cX1_grows 26 = .ok (.checkcast 138, 3) := dk_192 0 138 (dk_at dksX1_grows_1 3 rfl rfl)
theorem dX1_grows_29 : decode cX1_grows 29 = .ok (.astore_n 3, 1) := dk_78 (dk_at dksX1_grows_1 6 rfl rfl)
theorem dX1_grows_30 : decode cX1_grows 30 = .ok (.aload_n 3, 1) := dk_45 (dk_at dksX1_grows_1 7 rfl rfl)
theorem dX1_grows_31 : decode cX1_grows 31 = .ok (.getfield 140, 3) := dk_180 0 140 (dk_at dksX1_grows_1 8 rfl rfl)
theorem dX1_grows_34 : decode cX1_grows 34 = .ok (.ifnull 15, 3) := dk_198 0 15 (dk_at dksX1_grows_1 11 rfl rfl)
theorem dX1_grows_37 : decode cX1_grows 37 = .ok (.aload_n 3, 1) := dk_45 (dk_at dksX1_grows_1 14 rfl rfl)
theorem dX1_grows_38 : decode cX1_grows 38 = .ok (.getfield 140, 3) := dk_180 0 140 (dk_at dksX1_grows_1 15 rfl rfl)
theorem dX1_grows_41 : decode cX1_grows 41 = .ok (.aload_n 0, 1) := dk_42 (dk_at dksX1_grows_1 18 rfl rfl)
theorem dX1_grows_42 : decode cX1_grows 42 = .ok (.invokevirtual 144, 3) := dk_182 0 144 (dk_at dksX1_grows_1 19 rfl rfl)
theorem dX1_grows_45 : decode cX1_grows 45 = .ok (.iconst 1, 1) := dk_4 (dk_at dksX1_grows_1 22 rfl rfl)
theorem dX1_grows_46 : decode cX1_grows 46 = .ok (.if_icmp .ne 22, 3) := dk_160 0 22 (dk_at dksX1_grows_2 0 rfl rfl)
theorem dX1_grows_49 : decode cX1_grows 49 = .ok (.bipush (-99), 2) := dk_16 157 (dk_at dksX1_grows_2 3 rfl rfl)
theorem dX1_grows_51 : decode cX1_grows 51 = .ok (.bipush 99, 2) := dk_16 99 (dk_at dksX1_grows_2 5 rfl rfl)
theorem dX1_grows_53 : decode cX1_grows 53 = .ok (.aload_n 3, 1) := dk_45 (dk_at dksX1_grows_2 7 rfl rfl)
theorem dX1_grows_54 : decode cX1_grows 54 = .ok (.getfield 150, 3) := dk_180 0 150 (dk_at dksX1_grows_2 8 rfl rfl)
theorem dX1_grows_57 : decode cX1_grows 57 = .ok (.aload_n 0, 1) := dk_42 (dk_at dksX1_grows_2 11 rfl rfl)
theorem dX1_grows_58 : decode cX1_grows 58 = .ok (.invokevirtual 144, 3) := dk_182 0 144 (dk_at dksX1_grows_2 12 rfl rfl)
theorem dX1_grows_61 : decode cX1_grows 61 = .ok (.invokestatic 153, 3) := dk_184 0 153 (dk_at dksX1_grows_2 15 rfl rfl)
theorem dX1_grows_64 : decode cX1_grows 64 = .ok (.invokestatic 158, 3) := dk_184 0 158 (dk_at dksX1_grows_2 18 rfl rfl)
theorem dX1_grows_67 : decode cX1_grows 67 = .ok (.ireturn, 1) := dk_172 (dk_at dksX1_grows_2 21 rfl rfl)
theorem dX1_grows_68 : decode cX1_grows 68 = .ok (.iinc 2 1, 3) := dk_132 2 1 (dk_at dksX1_grows_3 0 rfl rfl)
theorem dX1_grows_71 : decode cX1_grows 71 = .ok (.goto (-64), 3) := dk_167 255 192 (dk_at dksX1_grows_3 3 rfl rfl)
theorem dX1_grows_74 : decode cX1_grows 74 = .ok (.iconst 1, 1) := dk_4 (dk_at dksX1_grows_3 6 rfl rfl)
theorem dX1_grows_75 : decode cX1_grows 75 = .ok (.ireturn, 1) := dk_172 (dk_at dksX1_grows_3 7 rfl rfl)
abbrev cX1_fact : ByteArray := prog_12_method_9_code
def yX1_fact : MethodName := ⟨RX1, "fact", "(I)I"⟩
def dkwX1_fact_5 : List UInt8 := [108, 172, 42, 180, 0, 81, 172]
abbrev dktX1_fact_5 : List UInt8 := dkwX1_fact_5 ++ []
def dkwX1_fact_4 : List UInt8 := [182, 0, 127, 172, 42, 4, 182, 0, 127, 172, 42, 180, 0, 120, 16, 8, 112, 172, 42, 180, 0, 120, 16, 8]
abbrev dktX1_fact_4 : List UInt8 := dkwX1_fact_4 ++ dktX1_fact_5
def dkwX1_fact_3 : List UInt8 := [42, 180, 0, 21, 42, 180, 0, 120, 46, 100, 172, 42, 180, 0, 9, 42, 180, 0, 120, 46, 172, 42, 3]
abbrev dktX1_fact_3 : List UInt8 := dkwX1_fact_3 ++ dktX1_fact_4
def dkwX1_fact_2 : List UInt8 := [42, 180, 0, 15, 42, 180, 0, 120, 46, 172, 42, 180, 0, 18, 42, 180, 0, 120, 46, 172, 42, 180, 0, 69]
abbrev dktX1_fact_2 : List UInt8 := dkwX1_fact_2 ++ dktX1_fact_3
def dkwX1_fact_1 : List UInt8 := [170, 0, 0, 0, 0, 0, 120, 0, 0, 0, 0, 0, 0, 0, 7, 0, 0, 0, 47, 0, 0, 0, 57, 0, 0, 0, 67, 0, 0, 0, 82, 0, 0, 0, 92, 0, 0, 0, 98, 0, 0, 0, 104, 0, 0, 0, 112]
abbrev dktX1_fact_1 : List UInt8 := dkwX1_fact_1 ++ dktX1_fact_2
def dkwX1_fact_0 : List UInt8 := [27]
abbrev dktX1_fact_0 : List UInt8 := dkwX1_fact_0 ++ dktX1_fact_1
theorem dksX1_fact_0 : cX1_fact.data.toList.drop 0 = dktX1_fact_0 := by decide +kernel
theorem dksX1_fact_1 : cX1_fact.data.toList.drop 1 = dktX1_fact_1 := dk_seg dksX1_fact_0 1 rfl rfl
theorem dksX1_fact_2 : cX1_fact.data.toList.drop 48 = dktX1_fact_2 := dk_seg dksX1_fact_1 47 rfl rfl
theorem dksX1_fact_3 : cX1_fact.data.toList.drop 72 = dktX1_fact_3 := dk_seg dksX1_fact_2 24 rfl rfl
theorem dksX1_fact_4 : cX1_fact.data.toList.drop 95 = dktX1_fact_4 := dk_seg dksX1_fact_3 23 rfl rfl
theorem dksX1_fact_5 : cX1_fact.data.toList.drop 119 = dktX1_fact_5 := dk_seg dksX1_fact_4 24 rfl rfl
theorem dX1_fact_0 : decode cX1_fact 0 = .ok (.iload_n 1, 1) := dk_27 (dk_at dksX1_fact_0 0 rfl rfl)
theorem dX1_fact_1 : decode cX1_fact 1 = .ok (.tableswitch 120 0 7 #[47, 57, 67, 82, 92, 98, 104, 112], 47) := by decide +kernel
theorem dX1_fact_48 : decode cX1_fact 48 = .ok (.aload_n 0, 1) := dk_42 (dk_at dksX1_fact_2 0 rfl rfl)
theorem dX1_fact_49 : decode cX1_fact 49 = .ok (.getfield 15, 3) := dk_180 0 15 (dk_at dksX1_fact_2 1 rfl rfl)
theorem dX1_fact_52 : decode cX1_fact 52 = .ok (.aload_n 0, 1) := dk_42 (dk_at dksX1_fact_2 4 rfl rfl)
theorem dX1_fact_53 : decode cX1_fact 53 = .ok (.getfield 120, 3) := dk_180 0 120 (dk_at dksX1_fact_2 5 rfl rfl)
theorem dX1_fact_56 : decode cX1_fact 56 = .ok (.iaload, 1) := dk_46 (dk_at dksX1_fact_2 8 rfl rfl)
theorem dX1_fact_57 : decode cX1_fact 57 = .ok (.ireturn, 1) := dk_172 (dk_at dksX1_fact_2 9 rfl rfl)
theorem dX1_fact_58 : decode cX1_fact 58 = .ok (.aload_n 0, 1) := dk_42 (dk_at dksX1_fact_2 10 rfl rfl)
theorem dX1_fact_59 : decode cX1_fact 59 = .ok (.getfield 18, 3) := dk_180 0 18 (dk_at dksX1_fact_2 11 rfl rfl)
theorem dX1_fact_62 : decode cX1_fact 62 = .ok (.aload_n 0, 1) := dk_42 (dk_at dksX1_fact_2 14 rfl rfl)
theorem dX1_fact_63 : decode cX1_fact 63 = .ok (.getfield 120, 3) := dk_180 0 120 (dk_at dksX1_fact_2 15 rfl rfl)
theorem dX1_fact_66 : decode cX1_fact 66 = .ok (.iaload, 1) := dk_46 (dk_at dksX1_fact_2 18 rfl rfl)
theorem dX1_fact_67 : decode cX1_fact 67 = .ok (.ireturn, 1) := dk_172 (dk_at dksX1_fact_2 19 rfl rfl)
theorem dX1_fact_68 : decode cX1_fact 68 = .ok (.aload_n 0, 1) := dk_42 (dk_at dksX1_fact_2 20 rfl rfl)
theorem dX1_fact_69 : decode cX1_fact 69 = .ok (.getfield 69, 3) := dk_180 0 69 (dk_at dksX1_fact_2 21 rfl rfl)
theorem dX1_fact_72 : decode cX1_fact 72 = .ok (.aload_n 0, 1) := dk_42 (dk_at dksX1_fact_3 0 rfl rfl)
theorem dX1_fact_73 : decode cX1_fact 73 = .ok (.getfield 21, 3) := dk_180 0 21 (dk_at dksX1_fact_3 1 rfl rfl)
theorem dX1_fact_76 : decode cX1_fact 76 = .ok (.aload_n 0, 1) := dk_42 (dk_at dksX1_fact_3 4 rfl rfl)
theorem dX1_fact_77 : decode cX1_fact 77 = .ok (.getfield 120, 3) := dk_180 0 120 (dk_at dksX1_fact_3 5 rfl rfl)
theorem dX1_fact_80 : decode cX1_fact 80 = .ok (.iaload, 1) := dk_46 (dk_at dksX1_fact_3 8 rfl rfl)
theorem dX1_fact_81 : decode cX1_fact 81 = .ok (.isub, 1) := dk_100 (dk_at dksX1_fact_3 9 rfl rfl)
theorem dX1_fact_82 : decode cX1_fact 82 = .ok (.ireturn, 1) := dk_172 (dk_at dksX1_fact_3 10 rfl rfl)
theorem dX1_fact_83 : decode cX1_fact 83 = .ok (.aload_n 0, 1) := dk_42 (dk_at dksX1_fact_3 11 rfl rfl)
theorem dX1_fact_84 : decode cX1_fact 84 = .ok (.getfield 9, 3) := dk_180 0 9 (dk_at dksX1_fact_3 12 rfl rfl)
theorem dX1_fact_87 : decode cX1_fact 87 = .ok (.aload_n 0, 1) := dk_42 (dk_at dksX1_fact_3 15 rfl rfl)
theorem dX1_fact_88 : decode cX1_fact 88 = .ok (.getfield 120, 3) := dk_180 0 120 (dk_at dksX1_fact_3 16 rfl rfl)
theorem dX1_fact_91 : decode cX1_fact 91 = .ok (.iaload, 1) := dk_46 (dk_at dksX1_fact_3 19 rfl rfl)
theorem dX1_fact_92 : decode cX1_fact 92 = .ok (.ireturn, 1) := dk_172 (dk_at dksX1_fact_3 20 rfl rfl)
theorem dX1_fact_93 : decode cX1_fact 93 = .ok (.aload_n 0, 1) := dk_42 (dk_at dksX1_fact_3 21 rfl rfl)
theorem dX1_fact_94 : decode cX1_fact 94 = .ok (.iconst 0, 1) := dk_3 (dk_at dksX1_fact_3 22 rfl rfl)
theorem dX1_fact_95 : decode cX1_fact 95 = .ok (.invokevirtual 127, 3) := dk_182 0 127 (dk_at dksX1_fact_4 0 rfl rfl)
theorem dX1_fact_98 : decode cX1_fact 98 = .ok (.ireturn, 1) := dk_172 (dk_at dksX1_fact_4 3 rfl rfl)
theorem dX1_fact_99 : decode cX1_fact 99 = .ok (.aload_n 0, 1) := dk_42 (dk_at dksX1_fact_4 4 rfl rfl)
theorem dX1_fact_100 : decode cX1_fact 100 = .ok (.iconst 1, 1) := dk_4 (dk_at dksX1_fact_4 5 rfl rfl)
theorem dX1_fact_101 : decode cX1_fact 101 = .ok (.invokevirtual 127, 3) := dk_182 0 127 (dk_at dksX1_fact_4 6 rfl rfl)
theorem dX1_fact_104 : decode cX1_fact 104 = .ok (.ireturn, 1) := dk_172 (dk_at dksX1_fact_4 9 rfl rfl)
theorem dX1_fact_105 : decode cX1_fact 105 = .ok (.aload_n 0, 1) := dk_42 (dk_at dksX1_fact_4 10 rfl rfl)
theorem dX1_fact_106 : decode cX1_fact 106 = .ok (.getfield 120, 3) := dk_180 0 120 (dk_at dksX1_fact_4 11 rfl rfl)
theorem dX1_fact_109 : decode cX1_fact 109 = .ok (.bipush 8, 2) := dk_16 8 (dk_at dksX1_fact_4 14 rfl rfl)
theorem dX1_fact_111 : decode cX1_fact 111 = .ok (.irem, 1) := dk_112 (dk_at dksX1_fact_4 16 rfl rfl)
theorem dX1_fact_112 : decode cX1_fact 112 = .ok (.ireturn, 1) := dk_172 (dk_at dksX1_fact_4 17 rfl rfl)
theorem dX1_fact_113 : decode cX1_fact 113 = .ok (.aload_n 0, 1) := dk_42 (dk_at dksX1_fact_4 18 rfl rfl)
theorem dX1_fact_114 : decode cX1_fact 114 = .ok (.getfield 120, 3) := dk_180 0 120 (dk_at dksX1_fact_4 19 rfl rfl)
theorem dX1_fact_117 : decode cX1_fact 117 = .ok (.bipush 8, 2) := dk_16 8 (dk_at dksX1_fact_4 22 rfl rfl)
theorem dX1_fact_119 : decode cX1_fact 119 = .ok (.idiv, 1) := dk_108 (dk_at dksX1_fact_5 0 rfl rfl)
theorem dX1_fact_120 : decode cX1_fact 120 = .ok (.ireturn, 1) := dk_172 (dk_at dksX1_fact_5 1 rfl rfl)
theorem dX1_fact_121 : decode cX1_fact 121 = .ok (.aload_n 0, 1) := dk_42 (dk_at dksX1_fact_5 2 rfl rfl)
theorem dX1_fact_122 : decode cX1_fact 122 = .ok (.getfield 81, 3) := dk_180 0 81 (dk_at dksX1_fact_5 3 rfl rfl)
theorem dX1_fact_125 : decode cX1_fact 125 = .ok (.ireturn, 1) := dk_172 (dk_at dksX1_fact_5 6 rfl rfl)
abbrev cX1_beside : ByteArray := prog_12_method_8_code
def yX1_beside : MethodName := ⟨RX1, "beside", "(Z)I"⟩
def dkwX1_beside_2 : List UInt8 := [180, 0, 120, 46, 160, 0, 7, 4, 167, 0, 4, 3, 96, 61, 132, 3, 1, 167, 255, 197, 28, 172]
abbrev dktX1_beside_2 : List UInt8 := dkwX1_beside_2 ++ []
def dkwX1_beside_1 : List UInt8 := [184, 0, 123, 4, 160, 0, 29, 27, 153, 0, 21, 42, 180, 0, 15, 29, 46, 42, 180, 0, 15, 42]
abbrev dktX1_beside_1 : List UInt8 := dkwX1_beside_1 ++ dktX1_beside_2
def dkwX1_beside_0 : List UInt8 := [3, 61, 3, 62, 29, 16, 64, 162, 0, 59, 28, 42, 29, 182, 0, 117, 153, 0, 41, 29, 42, 180, 0, 120]
abbrev dktX1_beside_0 : List UInt8 := dkwX1_beside_0 ++ dktX1_beside_1
theorem dksX1_beside_0 : cX1_beside.data.toList.drop 0 = dktX1_beside_0 := by decide +kernel
theorem dksX1_beside_1 : cX1_beside.data.toList.drop 24 = dktX1_beside_1 := dk_seg dksX1_beside_0 24 rfl rfl
theorem dksX1_beside_2 : cX1_beside.data.toList.drop 46 = dktX1_beside_2 := dk_seg dksX1_beside_1 22 rfl rfl
theorem dX1_beside_0 : decode cX1_beside 0 = .ok (.iconst 0, 1) := dk_3 (dk_at dksX1_beside_0 0 rfl rfl)
theorem dX1_beside_1 : decode cX1_beside 1 = .ok (.istore_n 2, 1) := dk_61 (dk_at dksX1_beside_0 1 rfl rfl)
theorem dX1_beside_2 : decode cX1_beside 2 = .ok (.iconst 0, 1) := dk_3 (dk_at dksX1_beside_0 2 rfl rfl)
theorem dX1_beside_3 : decode cX1_beside 3 = .ok (.istore_n 3, 1) := dk_62 (dk_at dksX1_beside_0 3 rfl rfl)
theorem dX1_beside_4 : decode cX1_beside 4 = .ok (.iload_n 3, 1) := dk_29 (dk_at dksX1_beside_0 4 rfl rfl)
theorem dX1_beside_5 : decode cX1_beside 5 = .ok (.bipush 64, 2) := dk_16 64 (dk_at dksX1_beside_0 5 rfl rfl)
theorem dX1_beside_7 : decode cX1_beside 7 = .ok (.if_icmp .ge 59, 3) := dk_162 0 59 (dk_at dksX1_beside_0 7 rfl rfl)
theorem dX1_beside_10 : decode cX1_beside 10 = .ok (.iload_n 2, 1) := dk_28 (dk_at dksX1_beside_0 10 rfl rfl)
theorem dX1_beside_11 : decode cX1_beside 11 = .ok (.aload_n 0, 1) := dk_42 (dk_at dksX1_beside_0 11 rfl rfl)
theorem dX1_beside_12 : decode cX1_beside 12 = .ok (.iload_n 3, 1) := dk_29 (dk_at dksX1_beside_0 12 rfl rfl)
theorem dX1_beside_13 : decode cX1_beside 13 = .ok (.invokevirtual 117, 3) := dk_182 0 117 (dk_at dksX1_beside_0 13 rfl rfl)
theorem dX1_beside_16 : decode cX1_beside 16 = .ok (.ifCond .eq 41, 3) := dk_153 0 41 (dk_at dksX1_beside_0 16 rfl rfl)
theorem dX1_beside_19 : decode cX1_beside 19 = .ok (.iload_n 3, 1) := dk_29 (dk_at dksX1_beside_0 19 rfl rfl)
theorem dX1_beside_20 : decode cX1_beside 20 = .ok (.aload_n 0, 1) := dk_42 (dk_at dksX1_beside_0 20 rfl rfl)
theorem dX1_beside_21 : decode cX1_beside 21 = .ok (.getfield 120, 3) := dk_180 0 120 (dk_at dksX1_beside_0 21 rfl rfl)
theorem dX1_beside_24 : decode cX1_beside 24 = .ok (.invokestatic 123, 3) := dk_184 0 123 (dk_at dksX1_beside_1 0 rfl rfl)
theorem dX1_beside_27 : decode cX1_beside 27 = .ok (.iconst 1, 1) := dk_4 (dk_at dksX1_beside_1 3 rfl rfl)
theorem dX1_beside_28 : decode cX1_beside 28 = .ok (.if_icmp .ne 29, 3) := dk_160 0 29 (dk_at dksX1_beside_1 4 rfl rfl)
theorem dX1_beside_31 : decode cX1_beside 31 = .ok (.iload_n 1, 1) := dk_27 (dk_at dksX1_beside_1 7 rfl rfl)
theorem dX1_beside_32 : decode cX1_beside 32 = .ok (.ifCond .eq 21, 3) := dk_153 0 21 (dk_at dksX1_beside_1 8 rfl rfl)
theorem dX1_beside_35 : decode cX1_beside 35 = .ok (.aload_n 0, 1) := dk_42 (dk_at dksX1_beside_1 11 rfl rfl)
theorem dX1_beside_36 : decode cX1_beside 36 = .ok (.getfield 15, 3) := dk_180 0 15 (dk_at dksX1_beside_1 12 rfl rfl)
theorem dX1_beside_39 : decode cX1_beside 39 = .ok (.iload_n 3, 1) := dk_29 (dk_at dksX1_beside_1 15 rfl rfl)
theorem dX1_beside_40 : decode cX1_beside 40 = .ok (.iaload, 1) := dk_46 (dk_at dksX1_beside_1 16 rfl rfl)
theorem dX1_beside_41 : decode cX1_beside 41 = .ok (.aload_n 0, 1) := dk_42 (dk_at dksX1_beside_1 17 rfl rfl)
theorem dX1_beside_42 : decode cX1_beside 42 = .ok (.getfield 15, 3) := dk_180 0 15 (dk_at dksX1_beside_1 18 rfl rfl)
theorem dX1_beside_45 : decode cX1_beside 45 = .ok (.aload_n 0, 1) := dk_42 (dk_at dksX1_beside_1 21 rfl rfl)
theorem dX1_beside_46 : decode cX1_beside 46 = .ok (.getfield 120, 3) := dk_180 0 120 (dk_at dksX1_beside_2 0 rfl rfl)
theorem dX1_beside_49 : decode cX1_beside 49 = .ok (.iaload, 1) := dk_46 (dk_at dksX1_beside_2 3 rfl rfl)
theorem dX1_beside_50 : decode cX1_beside 50 = .ok (.if_icmp .ne 7, 3) := dk_160 0 7 (dk_at dksX1_beside_2 4 rfl rfl)
theorem dX1_beside_53 : decode cX1_beside 53 = .ok (.iconst 1, 1) := dk_4 (dk_at dksX1_beside_2 7 rfl rfl)
theorem dX1_beside_54 : decode cX1_beside 54 = .ok (.goto 4, 3) := dk_167 0 4 (dk_at dksX1_beside_2 8 rfl rfl)
theorem dX1_beside_57 : decode cX1_beside 57 = .ok (.iconst 0, 1) := dk_3 (dk_at dksX1_beside_2 11 rfl rfl)
theorem dX1_beside_58 : decode cX1_beside 58 = .ok (.iadd, 1) := dk_96 (dk_at dksX1_beside_2 12 rfl rfl)
theorem dX1_beside_59 : decode cX1_beside 59 = .ok (.istore_n 2, 1) := dk_61 (dk_at dksX1_beside_2 13 rfl rfl)
theorem dX1_beside_60 : decode cX1_beside 60 = .ok (.iinc 3 1, 3) := dk_132 3 1 (dk_at dksX1_beside_2 14 rfl rfl)
theorem dX1_beside_63 : decode cX1_beside 63 = .ok (.goto (-59), 3) := dk_167 255 197 (dk_at dksX1_beside_2 17 rfl rfl)
theorem dX1_beside_66 : decode cX1_beside 66 = .ok (.iload_n 2, 1) := dk_28 (dk_at dksX1_beside_2 20 rfl rfl)
theorem dX1_beside_67 : decode cX1_beside 67 = .ok (.ireturn, 1) := dk_172 (dk_at dksX1_beside_2 21 rfl rfl)
abbrev cX1_caps : ByteArray := prog_12_method_13_code
def yX1_caps : MethodName := ⟨RX1, "caps", "()I"⟩
def dkwX1_caps_1 : List UInt8 := [96, 60, 132, 2, 1, 167, 255, 231, 27, 172]
abbrev dktX1_caps_1 : List UInt8 := dkwX1_caps_1 ++ []
def dkwX1_caps_0 : List UInt8 := [3, 60, 3, 61, 28, 16, 64, 162, 0, 25, 27, 42, 28, 182, 0, 117, 153, 0, 7, 4, 167, 0, 4, 3]
abbrev dktX1_caps_0 : List UInt8 := dkwX1_caps_0 ++ dktX1_caps_1
theorem dksX1_caps_0 : cX1_caps.data.toList.drop 0 = dktX1_caps_0 := by decide +kernel
theorem dksX1_caps_1 : cX1_caps.data.toList.drop 24 = dktX1_caps_1 := dk_seg dksX1_caps_0 24 rfl rfl
theorem dX1_caps_0 : decode cX1_caps 0 = .ok (.iconst 0, 1) := dk_3 (dk_at dksX1_caps_0 0 rfl rfl)
theorem dX1_caps_1 : decode cX1_caps 1 = .ok (.istore_n 1, 1) := dk_60 (dk_at dksX1_caps_0 1 rfl rfl)
theorem dX1_caps_2 : decode cX1_caps 2 = .ok (.iconst 0, 1) := dk_3 (dk_at dksX1_caps_0 2 rfl rfl)
theorem dX1_caps_3 : decode cX1_caps 3 = .ok (.istore_n 2, 1) := dk_61 (dk_at dksX1_caps_0 3 rfl rfl)
theorem dX1_caps_4 : decode cX1_caps 4 = .ok (.iload_n 2, 1) := dk_28 (dk_at dksX1_caps_0 4 rfl rfl)
theorem dX1_caps_5 : decode cX1_caps 5 = .ok (.bipush 64, 2) := dk_16 64 (dk_at dksX1_caps_0 5 rfl rfl)
theorem dX1_caps_7 : decode cX1_caps 7 = .ok (.if_icmp .ge 25, 3) := dk_162 0 25 (dk_at dksX1_caps_0 7 rfl rfl)
theorem dX1_caps_10 : decode cX1_caps 10 = .ok (.iload_n 1, 1) := dk_27 (dk_at dksX1_caps_0 10 rfl rfl)
theorem dX1_caps_11 : decode cX1_caps 11 = .ok (.aload_n 0, 1) := dk_42 (dk_at dksX1_caps_0 11 rfl rfl)
theorem dX1_caps_12 : decode cX1_caps 12 = .ok (.iload_n 2, 1) := dk_28 (dk_at dksX1_caps_0 12 rfl rfl)
theorem dX1_caps_13 : decode cX1_caps 13 = .ok (.invokevirtual 117, 3) := dk_182 0 117 (dk_at dksX1_caps_0 13 rfl rfl)
theorem dX1_caps_16 : decode cX1_caps 16 = .ok (.ifCond .eq 7, 3) := dk_153 0 7 (dk_at dksX1_caps_0 16 rfl rfl)
theorem dX1_caps_19 : decode cX1_caps 19 = .ok (.iconst 1, 1) := dk_4 (dk_at dksX1_caps_0 19 rfl rfl)
theorem dX1_caps_20 : decode cX1_caps 20 = .ok (.goto 4, 3) := dk_167 0 4 (dk_at dksX1_caps_0 20 rfl rfl)
theorem dX1_caps_23 : decode cX1_caps 23 = .ok (.iconst 0, 1) := dk_3 (dk_at dksX1_caps_0 23 rfl rfl)
theorem dX1_caps_24 : decode cX1_caps 24 = .ok (.iadd, 1) := dk_96 (dk_at dksX1_caps_1 0 rfl rfl)
theorem dX1_caps_25 : decode cX1_caps 25 = .ok (.istore_n 1, 1) := dk_60 (dk_at dksX1_caps_1 1 rfl rfl)
theorem dX1_caps_26 : decode cX1_caps 26 = .ok (.iinc 2 1, 3) := dk_132 2 1 (dk_at dksX1_caps_1 2 rfl rfl)
theorem dX1_caps_29 : decode cX1_caps 29 = .ok (.goto (-25), 3) := dk_167 255 231 (dk_at dksX1_caps_1 5 rfl rfl)
theorem dX1_caps_32 : decode cX1_caps 32 = .ok (.iload_n 1, 1) := dk_27 (dk_at dksX1_caps_1 8 rfl rfl)
theorem dX1_caps_33 : decode cX1_caps 33 = .ok (.ireturn, 1) := dk_172 (dk_at dksX1_caps_1 9 rfl rfl)
abbrev cX1_draw : ByteArray := prog_12_method_5_code
def yX1_draw : MethodName := ⟨RX1, "draw", "(I)I"⟩
def dkwX1_draw_0 : List UInt8 := [42, 18, 107, 42, 180, 0, 100, 104, 18, 108, 96, 181, 0, 100, 42, 180, 0, 100, 16, 8, 124, 27, 112, 172]
abbrev dktX1_draw_0 : List UInt8 := dkwX1_draw_0 ++ []
theorem dksX1_draw_0 : cX1_draw.data.toList.drop 0 = dktX1_draw_0 := by decide +kernel
theorem dX1_draw_0 : decode cX1_draw 0 = .ok (.aload_n 0, 1) := dk_42 (dk_at dksX1_draw_0 0 rfl rfl)
theorem dX1_draw_1 : decode cX1_draw 1 = .ok (.ldc 107, 2) := dk_18 107 (dk_at dksX1_draw_0 1 rfl rfl)
theorem dX1_draw_3 : decode cX1_draw 3 = .ok (.aload_n 0, 1) := dk_42 (dk_at dksX1_draw_0 3 rfl rfl)
theorem dX1_draw_4 : decode cX1_draw 4 = .ok (.getfield 100, 3) := dk_180 0 100 (dk_at dksX1_draw_0 4 rfl rfl)
theorem dX1_draw_7 : decode cX1_draw 7 = .ok (.imul, 1) := dk_104 (dk_at dksX1_draw_0 7 rfl rfl)
theorem dX1_draw_8 : decode cX1_draw 8 = .ok (.ldc 108, 2) := dk_18 108 (dk_at dksX1_draw_0 8 rfl rfl)
theorem dX1_draw_10 : decode cX1_draw 10 = .ok (.iadd, 1) := dk_96 (dk_at dksX1_draw_0 10 rfl rfl)
theorem dX1_draw_11 : decode cX1_draw 11 = .ok (.putfield 100, 3) := dk_181 0 100 (dk_at dksX1_draw_0 11 rfl rfl)
theorem dX1_draw_14 : decode cX1_draw 14 = .ok (.aload_n 0, 1) := dk_42 (dk_at dksX1_draw_0 14 rfl rfl)
theorem dX1_draw_15 : decode cX1_draw 15 = .ok (.getfield 100, 3) := dk_180 0 100 (dk_at dksX1_draw_0 15 rfl rfl)
theorem dX1_draw_18 : decode cX1_draw 18 = .ok (.bipush 8, 2) := dk_16 8 (dk_at dksX1_draw_0 18 rfl rfl)
theorem dX1_draw_20 : decode cX1_draw 20 = .ok (.iushr, 1) := dk_124 (dk_at dksX1_draw_0 20 rfl rfl)
theorem dX1_draw_21 : decode cX1_draw 21 = .ok (.iload_n 1, 1) := dk_27 (dk_at dksX1_draw_0 21 rfl rfl)
theorem dX1_draw_22 : decode cX1_draw 22 = .ok (.irem, 1) := dk_112 (dk_at dksX1_draw_0 22 rfl rfl)
theorem dX1_draw_23 : decode cX1_draw 23 = .ok (.ireturn, 1) := dk_172 (dk_at dksX1_draw_0 23 rfl rfl)
abbrev cX1_capAt : ByteArray := prog_12_method_14_code
def yX1_capAt : MethodName := ⟨RX1, "capAt", "(I)I"⟩
def dkwX1_capAt_1 : List UInt8 := [153, 0, 7, 4, 167, 0, 4, 3, 100, 61, 132, 3, 1, 167, 255, 225, 29, 172]
abbrev dktX1_capAt_1 : List UInt8 := dkwX1_capAt_1 ++ []
def dkwX1_capAt_0 : List UInt8 := [27, 61, 3, 62, 42, 29, 182, 0, 117, 153, 0, 7, 28, 158, 0, 25, 28, 42, 29, 182, 0, 117]
abbrev dktX1_capAt_0 : List UInt8 := dkwX1_capAt_0 ++ dktX1_capAt_1
theorem dksX1_capAt_0 : cX1_capAt.data.toList.drop 0 = dktX1_capAt_0 := by decide +kernel
theorem dksX1_capAt_1 : cX1_capAt.data.toList.drop 22 = dktX1_capAt_1 := dk_seg dksX1_capAt_0 22 rfl rfl
theorem dX1_capAt_0 : decode cX1_capAt 0 = .ok (.iload_n 1, 1) := dk_27 (dk_at dksX1_capAt_0 0 rfl rfl)
theorem dX1_capAt_1 : decode cX1_capAt 1 = .ok (.istore_n 2, 1) := dk_61 (dk_at dksX1_capAt_0 1 rfl rfl)
theorem dX1_capAt_2 : decode cX1_capAt 2 = .ok (.iconst 0, 1) := dk_3 (dk_at dksX1_capAt_0 2 rfl rfl)
theorem dX1_capAt_3 : decode cX1_capAt 3 = .ok (.istore_n 3, 1) := dk_62 (dk_at dksX1_capAt_0 3 rfl rfl)
theorem dX1_capAt_4 : decode cX1_capAt 4 = .ok (.aload_n 0, 1) := dk_42 (dk_at dksX1_capAt_0 4 rfl rfl)
theorem dX1_capAt_5 : decode cX1_capAt 5 = .ok (.iload_n 3, 1) := dk_29 (dk_at dksX1_capAt_0 5 rfl rfl)
theorem dX1_capAt_6 : decode cX1_capAt 6 = .ok (.invokevirtual 117, 3) := dk_182 0 117 (dk_at dksX1_capAt_0 6 rfl rfl)
theorem dX1_capAt_9 : decode cX1_capAt 9 = .ok (.ifCond .eq 7, 3) := dk_153 0 7 (dk_at dksX1_capAt_0 9 rfl rfl)
theorem dX1_capAt_12 : decode cX1_capAt 12 = .ok (.iload_n 2, 1) := dk_28 (dk_at dksX1_capAt_0 12 rfl rfl)
theorem dX1_capAt_13 : decode cX1_capAt 13 = .ok (.ifCond .le 25, 3) := dk_158 0 25 (dk_at dksX1_capAt_0 13 rfl rfl)
theorem dX1_capAt_16 : decode cX1_capAt 16 = .ok (.iload_n 2, 1) := dk_28 (dk_at dksX1_capAt_0 16 rfl rfl)
theorem dX1_capAt_17 : decode cX1_capAt 17 = .ok (.aload_n 0, 1) := dk_42 (dk_at dksX1_capAt_0 17 rfl rfl)
theorem dX1_capAt_18 : decode cX1_capAt 18 = .ok (.iload_n 3, 1) := dk_29 (dk_at dksX1_capAt_0 18 rfl rfl)
theorem dX1_capAt_19 : decode cX1_capAt 19 = .ok (.invokevirtual 117, 3) := dk_182 0 117 (dk_at dksX1_capAt_0 19 rfl rfl)
theorem dX1_capAt_22 : decode cX1_capAt 22 = .ok (.ifCond .eq 7, 3) := dk_153 0 7 (dk_at dksX1_capAt_1 0 rfl rfl)
theorem dX1_capAt_25 : decode cX1_capAt 25 = .ok (.iconst 1, 1) := dk_4 (dk_at dksX1_capAt_1 3 rfl rfl)
theorem dX1_capAt_26 : decode cX1_capAt 26 = .ok (.goto 4, 3) := dk_167 0 4 (dk_at dksX1_capAt_1 4 rfl rfl)
theorem dX1_capAt_29 : decode cX1_capAt 29 = .ok (.iconst 0, 1) := dk_3 (dk_at dksX1_capAt_1 7 rfl rfl)
theorem dX1_capAt_30 : decode cX1_capAt 30 = .ok (.isub, 1) := dk_100 (dk_at dksX1_capAt_1 8 rfl rfl)
theorem dX1_capAt_31 : decode cX1_capAt 31 = .ok (.istore_n 2, 1) := dk_61 (dk_at dksX1_capAt_1 9 rfl rfl)
theorem dX1_capAt_32 : decode cX1_capAt 32 = .ok (.iinc 3 1, 3) := dk_132 3 1 (dk_at dksX1_capAt_1 10 rfl rfl)
theorem dX1_capAt_35 : decode cX1_capAt 35 = .ok (.goto (-31), 3) := dk_167 255 225 (dk_at dksX1_capAt_1 13 rfl rfl)
theorem dX1_capAt_38 : decode cX1_capAt 38 = .ok (.iload_n 3, 1) := dk_29 (dk_at dksX1_capAt_1 16 rfl rfl)
theorem dX1_capAt_39 : decode cX1_capAt 39 = .ok (.ireturn, 1) := dk_172 (dk_at dksX1_capAt_1 17 rfl rfl)
abbrev cX1_allDamp : ByteArray := prog_12_method_12_code
def yX1_allDamp : MethodName := ⟨RX1, "allDamp", "(I)V"⟩
def dkwX1_allDamp_1 : List UInt8 := [42, 180, 0, 9, 28, 46, 27, 96, 184, 0, 153, 184, 0, 158, 79, 132, 2, 1, 167, 255, 216, 177]
abbrev dktX1_allDamp_1 : List UInt8 := dkwX1_allDamp_1 ++ []
def dkwX1_allDamp_0 : List UInt8 := [3, 61, 28, 16, 64, 162, 0, 40, 42, 28, 182, 0, 113, 153, 0, 26, 42, 180, 0, 9, 28, 3, 16, 99]
abbrev dktX1_allDamp_0 : List UInt8 := dkwX1_allDamp_0 ++ dktX1_allDamp_1
theorem dksX1_allDamp_0 : cX1_allDamp.data.toList.drop 0 = dktX1_allDamp_0 := by decide +kernel
theorem dksX1_allDamp_1 : cX1_allDamp.data.toList.drop 24 = dktX1_allDamp_1 := dk_seg dksX1_allDamp_0 24 rfl rfl
theorem dX1_allDamp_0 : decode cX1_allDamp 0 = .ok (.iconst 0, 1) := dk_3 (dk_at dksX1_allDamp_0 0 rfl rfl)
theorem dX1_allDamp_1 : decode cX1_allDamp 1 = .ok (.istore_n 2, 1) := dk_61 (dk_at dksX1_allDamp_0 1 rfl rfl)
theorem dX1_allDamp_2 : decode cX1_allDamp 2 = .ok (.iload_n 2, 1) := dk_28 (dk_at dksX1_allDamp_0 2 rfl rfl)
theorem dX1_allDamp_3 : decode cX1_allDamp 3 = .ok (.bipush 64, 2) := dk_16 64 (dk_at dksX1_allDamp_0 3 rfl rfl)
theorem dX1_allDamp_5 : decode cX1_allDamp 5 = .ok (.if_icmp .ge 40, 3) := dk_162 0 40 (dk_at dksX1_allDamp_0 5 rfl rfl)
theorem dX1_allDamp_8 : decode cX1_allDamp 8 = .ok (.aload_n 0, 1) := dk_42 (dk_at dksX1_allDamp_0 8 rfl rfl)
theorem dX1_allDamp_9 : decode cX1_allDamp 9 = .ok (.iload_n 2, 1) := dk_28 (dk_at dksX1_allDamp_0 9 rfl rfl)
theorem dX1_allDamp_10 : decode cX1_allDamp 10 = .ok (.invokevirtual 113, 3) := dk_182 0 113 (dk_at dksX1_allDamp_0 10 rfl rfl)
theorem dX1_allDamp_13 : decode cX1_allDamp 13 = .ok (.ifCond .eq 26, 3) := dk_153 0 26 (dk_at dksX1_allDamp_0 13 rfl rfl)
theorem dX1_allDamp_16 : decode cX1_allDamp 16 = .ok (.aload_n 0, 1) := dk_42 (dk_at dksX1_allDamp_0 16 rfl rfl)
theorem dX1_allDamp_17 : decode cX1_allDamp 17 = .ok (.getfield 9, 3) := dk_180 0 9 (dk_at dksX1_allDamp_0 17 rfl rfl)
theorem dX1_allDamp_20 : decode cX1_allDamp 20 = .ok (.iload_n 2, 1) := dk_28 (dk_at dksX1_allDamp_0 20 rfl rfl)
theorem dX1_allDamp_21 : decode cX1_allDamp 21 = .ok (.iconst 0, 1) := dk_3 (dk_at dksX1_allDamp_0 21 rfl rfl)
theorem dX1_allDamp_22 : decode cX1_allDamp 22 = .ok (.bipush 99, 2) := dk_16 99 (dk_at dksX1_allDamp_0 22 rfl rfl)
theorem dX1_allDamp_24 : decode cX1_allDamp 24 = .ok (.aload_n 0, 1) := dk_42 (dk_at dksX1_allDamp_1 0 rfl rfl)
theorem dX1_allDamp_25 : decode cX1_allDamp 25 = .ok (.getfield 9, 3) := dk_180 0 9 (dk_at dksX1_allDamp_1 1 rfl rfl)
theorem dX1_allDamp_28 : decode cX1_allDamp 28 = .ok (.iload_n 2, 1) := dk_28 (dk_at dksX1_allDamp_1 4 rfl rfl)
theorem dX1_allDamp_29 : decode cX1_allDamp 29 = .ok (.iaload, 1) := dk_46 (dk_at dksX1_allDamp_1 5 rfl rfl)
theorem dX1_allDamp_30 : decode cX1_allDamp 30 = .ok (.iload_n 1, 1) := dk_27 (dk_at dksX1_allDamp_1 6 rfl rfl)
theorem dX1_allDamp_31 : decode cX1_allDamp 31 = .ok (.iadd, 1) := dk_96 (dk_at dksX1_allDamp_1 7 rfl rfl)
theorem dX1_allDamp_32 : decode cX1_allDamp 32 = .ok (.invokestatic 153, 3) := dk_184 0 153 (dk_at dksX1_allDamp_1 8 rfl rfl)
theorem dX1_allDamp_35 : decode cX1_allDamp 35 = .ok (.invokestatic 158, 3) := dk_184 0 158 (dk_at dksX1_allDamp_1 11 rfl rfl)
theorem dX1_allDamp_38 : decode cX1_allDamp 38 = .ok (.iastore, 1) := dk_79 (dk_at dksX1_allDamp_1 14 rfl rfl)
theorem dX1_allDamp_39 : decode cX1_allDamp 39 = .ok (.iinc 2 1, 3) := dk_132 2 1 (dk_at dksX1_allDamp_1 15 rfl rfl)
theorem dX1_allDamp_42 : decode cX1_allDamp 42 = .ok (.goto (-40), 3) := dk_167 255 216 (dk_at dksX1_allDamp_1 18 rfl rfl)
theorem dX1_allDamp_45 : decode cX1_allDamp 45 = .ok (.return_, 1) := dk_177 (dk_at dksX1_allDamp_1 21 rfl rfl)
abbrev cX1_takes : ByteArray := prog_12_method_4_code
def yX1_takes : MethodName := ⟨RX1, "takes", "(LLastWordWood$Wood;)V"⟩
def dkwX1_takes_9 : List UInt8 := [167, 255, 216, 177]
abbrev dktX1_takes_9 : List UInt8 := dkwX1_takes_9 ++ []
def dkwX1_takes_8 : List UInt8 := [180, 0, 41, 28, 50, 29, 43, 180, 0, 41, 28, 50, 29, 46, 79, 132, 3, 1, 167, 255, 232, 132, 2, 1]
abbrev dktX1_takes_8 : List UInt8 := dkwX1_takes_8 ++ dktX1_takes_9
def dkwX1_takes_7 : List UInt8 := [132, 2, 1, 167, 255, 209, 3, 61, 28, 42, 180, 0, 78, 162, 0, 38, 3, 62, 29, 7, 162, 0, 25, 42]
abbrev dktX1_takes_7 : List UInt8 := dkwX1_takes_7 ++ dktX1_takes_8
def dkwX1_takes_6 : List UInt8 := [180, 0, 33, 28, 43, 180, 0, 33, 28, 46, 79, 42, 180, 0, 36, 28, 43, 180, 0, 36, 28, 46, 79]
abbrev dktX1_takes_6 : List UInt8 := dkwX1_takes_6 ++ dktX1_takes_7
def dkwX1_takes_5 : List UInt8 := [61, 28, 42, 180, 0, 72, 162, 0, 45, 42, 180, 0, 30, 28, 43, 180, 0, 30, 28, 46, 79, 42]
abbrev dktX1_takes_5 : List UInt8 := dkwX1_takes_5 ++ dktX1_takes_6
def dkwX1_takes_4 : List UInt8 := [16, 64, 162, 0, 21, 42, 180, 0, 9, 28, 43, 180, 0, 9, 28, 46, 79, 132, 2, 1, 167, 255, 235, 3]
abbrev dktX1_takes_4 : List UInt8 := dkwX1_takes_4 ++ dktX1_takes_5
def dkwX1_takes_3 : List UInt8 := [42, 43, 180, 0, 93, 181, 0, 93, 42, 43, 180, 0, 53, 181, 0, 53, 42, 43, 182, 0, 103, 3, 61, 28]
abbrev dktX1_takes_3 : List UInt8 := dkwX1_takes_3 ++ dktX1_takes_4
def dkwX1_takes_2 : List UInt8 := [42, 43, 180, 0, 81, 181, 0, 81, 42, 43, 180, 0, 87, 181, 0, 87, 42, 43, 180, 0, 90, 181, 0, 90]
abbrev dktX1_takes_2 : List UInt8 := dkwX1_takes_2 ++ dktX1_takes_3
def dkwX1_takes_1 : List UInt8 := [42, 43, 180, 0, 72, 181, 0, 72, 42, 43, 180, 0, 75, 181, 0, 75, 42, 43, 180, 0, 100, 181, 0, 100]
abbrev dktX1_takes_1 : List UInt8 := dkwX1_takes_1 ++ dktX1_takes_2
def dkwX1_takes_0 : List UInt8 := [42, 43, 180, 0, 62, 181, 0, 62, 42, 43, 180, 0, 66, 181, 0, 66, 42, 43, 180, 0, 69, 181, 0, 69]
abbrev dktX1_takes_0 : List UInt8 := dkwX1_takes_0 ++ dktX1_takes_1
theorem dksX1_takes_0 : cX1_takes.data.toList.drop 0 = dktX1_takes_0 := by decide +kernel
theorem dksX1_takes_1 : cX1_takes.data.toList.drop 24 = dktX1_takes_1 := dk_seg dksX1_takes_0 24 rfl rfl
theorem dksX1_takes_2 : cX1_takes.data.toList.drop 48 = dktX1_takes_2 := dk_seg dksX1_takes_1 24 rfl rfl
theorem dksX1_takes_3 : cX1_takes.data.toList.drop 72 = dktX1_takes_3 := dk_seg dksX1_takes_2 24 rfl rfl
theorem dksX1_takes_4 : cX1_takes.data.toList.drop 96 = dktX1_takes_4 := dk_seg dksX1_takes_3 24 rfl rfl
theorem dksX1_takes_5 : cX1_takes.data.toList.drop 120 = dktX1_takes_5 := dk_seg dksX1_takes_4 24 rfl rfl
theorem dksX1_takes_6 : cX1_takes.data.toList.drop 142 = dktX1_takes_6 := dk_seg dksX1_takes_5 22 rfl rfl
theorem dksX1_takes_7 : cX1_takes.data.toList.drop 165 = dktX1_takes_7 := dk_seg dksX1_takes_6 23 rfl rfl
theorem dksX1_takes_8 : cX1_takes.data.toList.drop 189 = dktX1_takes_8 := dk_seg dksX1_takes_7 24 rfl rfl
theorem dksX1_takes_9 : cX1_takes.data.toList.drop 213 = dktX1_takes_9 := dk_seg dksX1_takes_8 24 rfl rfl
theorem dX1_takes_0 : decode cX1_takes 0 = .ok (.aload_n 0, 1) := dk_42 (dk_at dksX1_takes_0 0 rfl rfl)
theorem dX1_takes_1 : decode cX1_takes 1 = .ok (.aload_n 1, 1) := dk_43 (dk_at dksX1_takes_0 1 rfl rfl)
theorem dX1_takes_2 : decode cX1_takes 2 = .ok (.getfield 62, 3) := dk_180 0 62 (dk_at dksX1_takes_0 2 rfl rfl)
theorem dX1_takes_5 : decode cX1_takes 5 = .ok (.putfield 62, 3) := dk_181 0 62 (dk_at dksX1_takes_0 5 rfl rfl)
theorem dX1_takes_8 : decode cX1_takes 8 = .ok (.aload_n 0, 1) := dk_42 (dk_at dksX1_takes_0 8 rfl rfl)
theorem dX1_takes_9 : decode cX1_takes 9 = .ok (.aload_n 1, 1) := dk_43 (dk_at dksX1_takes_0 9 rfl rfl)
theorem dX1_takes_10 : decode cX1_takes 10 = .ok (.getfield 66, 3) := dk_180 0 66 (dk_at dksX1_takes_0 10 rfl rfl)
theorem dX1_takes_13 : decode cX1_takes 13 = .ok (.putfield 66, 3) := dk_181 0 66 (dk_at dksX1_takes_0 13 rfl rfl)
theorem dX1_takes_16 : decode cX1_takes 16 = .ok (.aload_n 0, 1) := dk_42 (dk_at dksX1_takes_0 16 rfl rfl)
theorem dX1_takes_17 : decode cX1_takes 17 = .ok (.aload_n 1, 1) := dk_43 (dk_at dksX1_takes_0 17 rfl rfl)
theorem dX1_takes_18 : decode cX1_takes 18 = .ok (.getfield 69, 3) := dk_180 0 69 (dk_at dksX1_takes_0 18 rfl rfl)
theorem dX1_takes_21 : decode cX1_takes 21 = .ok (.putfield 69, 3) := dk_181 0 69 (dk_at dksX1_takes_0 21 rfl rfl)
theorem dX1_takes_24 : decode cX1_takes 24 = .ok (.aload_n 0, 1) := dk_42 (dk_at dksX1_takes_1 0 rfl rfl)
theorem dX1_takes_25 : decode cX1_takes 25 = .ok (.aload_n 1, 1) := dk_43 (dk_at dksX1_takes_1 1 rfl rfl)
theorem dX1_takes_26 : decode cX1_takes 26 = .ok (.getfield 72, 3) := dk_180 0 72 (dk_at dksX1_takes_1 2 rfl rfl)
theorem dX1_takes_29 : decode cX1_takes 29 = .ok (.putfield 72, 3) := dk_181 0 72 (dk_at dksX1_takes_1 5 rfl rfl)
theorem dX1_takes_32 : decode cX1_takes 32 = .ok (.aload_n 0, 1) := dk_42 (dk_at dksX1_takes_1 8 rfl rfl)
theorem dX1_takes_33 : decode cX1_takes 33 = .ok (.aload_n 1, 1) := dk_43 (dk_at dksX1_takes_1 9 rfl rfl)
theorem dX1_takes_34 : decode cX1_takes 34 = .ok (.getfield 75, 3) := dk_180 0 75 (dk_at dksX1_takes_1 10 rfl rfl)
theorem dX1_takes_37 : decode cX1_takes 37 = .ok (.putfield 75, 3) := dk_181 0 75 (dk_at dksX1_takes_1 13 rfl rfl)
theorem dX1_takes_40 : decode cX1_takes 40 = .ok (.aload_n 0, 1) := dk_42 (dk_at dksX1_takes_1 16 rfl rfl)
theorem dX1_takes_41 : decode cX1_takes 41 = .ok (.aload_n 1, 1) := dk_43 (dk_at dksX1_takes_1 17 rfl rfl)
theorem dX1_takes_42 : decode cX1_takes 42 = .ok (.getfield 100, 3) := dk_180 0 100 (dk_at dksX1_takes_1 18 rfl rfl)
theorem dX1_takes_45 : decode cX1_takes 45 = .ok (.putfield 100, 3) := dk_181 0 100 (dk_at dksX1_takes_1 21 rfl rfl)
theorem dX1_takes_48 : decode cX1_takes 48 = .ok (.aload_n 0, 1) := dk_42 (dk_at dksX1_takes_2 0 rfl rfl)
theorem dX1_takes_49 : decode cX1_takes 49 = .ok (.aload_n 1, 1) := dk_43 (dk_at dksX1_takes_2 1 rfl rfl)
theorem dX1_takes_50 : decode cX1_takes 50 = .ok (.getfield 81, 3) := dk_180 0 81 (dk_at dksX1_takes_2 2 rfl rfl)
theorem dX1_takes_53 : decode cX1_takes 53 = .ok (.putfield 81, 3) := dk_181 0 81 (dk_at dksX1_takes_2 5 rfl rfl)
theorem dX1_takes_56 : decode cX1_takes 56 = .ok (.aload_n 0, 1) := dk_42 (dk_at dksX1_takes_2 8 rfl rfl)
theorem dX1_takes_57 : decode cX1_takes 57 = .ok (.aload_n 1, 1) := dk_43 (dk_at dksX1_takes_2 9 rfl rfl)
theorem dX1_takes_58 : decode cX1_takes 58 = .ok (.getfield 87, 3) := dk_180 0 87 (dk_at dksX1_takes_2 10 rfl rfl)
theorem dX1_takes_61 : decode cX1_takes 61 = .ok (.putfield 87, 3) := dk_181 0 87 (dk_at dksX1_takes_2 13 rfl rfl)
theorem dX1_takes_64 : decode cX1_takes 64 = .ok (.aload_n 0, 1) := dk_42 (dk_at dksX1_takes_2 16 rfl rfl)
theorem dX1_takes_65 : decode cX1_takes 65 = .ok (.aload_n 1, 1) := dk_43 (dk_at dksX1_takes_2 17 rfl rfl)
theorem dX1_takes_66 : decode cX1_takes 66 = .ok (.getfield 90, 3) := dk_180 0 90 (dk_at dksX1_takes_2 18 rfl rfl)
theorem dX1_takes_69 : decode cX1_takes 69 = .ok (.putfield 90, 3) := dk_181 0 90 (dk_at dksX1_takes_2 21 rfl rfl)
theorem dX1_takes_72 : decode cX1_takes 72 = .ok (.aload_n 0, 1) := dk_42 (dk_at dksX1_takes_3 0 rfl rfl)
theorem dX1_takes_73 : decode cX1_takes 73 = .ok (.aload_n 1, 1) := dk_43 (dk_at dksX1_takes_3 1 rfl rfl)
theorem dX1_takes_74 : decode cX1_takes 74 = .ok (.getfield 93, 3) := dk_180 0 93 (dk_at dksX1_takes_3 2 rfl rfl)
theorem dX1_takes_77 : decode cX1_takes 77 = .ok (.putfield 93, 3) := dk_181 0 93 (dk_at dksX1_takes_3 5 rfl rfl)
theorem dX1_takes_80 : decode cX1_takes 80 = .ok (.aload_n 0, 1) := dk_42 (dk_at dksX1_takes_3 8 rfl rfl)
theorem dX1_takes_81 : decode cX1_takes 81 = .ok (.aload_n 1, 1) := dk_43 (dk_at dksX1_takes_3 9 rfl rfl)
theorem dX1_takes_82 : decode cX1_takes 82 = .ok (.getfield 53, 3) := dk_180 0 53 (dk_at dksX1_takes_3 10 rfl rfl)
theorem dX1_takes_85 : decode cX1_takes 85 = .ok (.putfield 53, 3) := dk_181 0 53 (dk_at dksX1_takes_3 13 rfl rfl)
theorem dX1_takes_88 : decode cX1_takes 88 = .ok (.aload_n 0, 1) := dk_42 (dk_at dksX1_takes_3 16 rfl rfl)
theorem dX1_takes_89 : decode cX1_takes 89 = .ok (.aload_n 1, 1) := dk_43 (dk_at dksX1_takes_3 17 rfl rfl)
theorem dX1_takes_90 : decode cX1_takes 90 = .ok (.invokevirtual 103, 3) := dk_182 0 103 (dk_at dksX1_takes_3 18 rfl rfl)
theorem dX1_takes_93 : decode cX1_takes 93 = .ok (.iconst 0, 1) := dk_3 (dk_at dksX1_takes_3 21 rfl rfl)
theorem dX1_takes_94 : decode cX1_takes 94 = .ok (.istore_n 2, 1) := dk_61 (dk_at dksX1_takes_3 22 rfl rfl)
theorem dX1_takes_95 : decode cX1_takes 95 = .ok (.iload_n 2, 1) := dk_28 (dk_at dksX1_takes_3 23 rfl rfl)
theorem dX1_takes_96 : decode cX1_takes 96 = .ok (.bipush 64, 2) := dk_16 64 (dk_at dksX1_takes_4 0 rfl rfl)
theorem dX1_takes_98 : decode cX1_takes 98 = .ok (.if_icmp .ge 21, 3) := dk_162 0 21 (dk_at dksX1_takes_4 2 rfl rfl)
theorem dX1_takes_101 : decode cX1_takes 101 = .ok (.aload_n 0, 1) := dk_42 (dk_at dksX1_takes_4 5 rfl rfl)
theorem dX1_takes_102 : decode cX1_takes 102 = .ok (.getfield 9, 3) := dk_180 0 9 (dk_at dksX1_takes_4 6 rfl rfl)
theorem dX1_takes_105 : decode cX1_takes 105 = .ok (.iload_n 2, 1) := dk_28 (dk_at dksX1_takes_4 9 rfl rfl)
theorem dX1_takes_106 : decode cX1_takes 106 = .ok (.aload_n 1, 1) := dk_43 (dk_at dksX1_takes_4 10 rfl rfl)
theorem dX1_takes_107 : decode cX1_takes 107 = .ok (.getfield 9, 3) := dk_180 0 9 (dk_at dksX1_takes_4 11 rfl rfl)
theorem dX1_takes_110 : decode cX1_takes 110 = .ok (.iload_n 2, 1) := dk_28 (dk_at dksX1_takes_4 14 rfl rfl)
theorem dX1_takes_111 : decode cX1_takes 111 = .ok (.iaload, 1) := dk_46 (dk_at dksX1_takes_4 15 rfl rfl)
theorem dX1_takes_112 : decode cX1_takes 112 = .ok (.iastore, 1) := dk_79 (dk_at dksX1_takes_4 16 rfl rfl)
theorem dX1_takes_113 : decode cX1_takes 113 = .ok (.iinc 2 1, 3) := dk_132 2 1 (dk_at dksX1_takes_4 17 rfl rfl)
theorem dX1_takes_116 : decode cX1_takes 116 = .ok (.goto (-21), 3) := dk_167 255 235 (dk_at dksX1_takes_4 20 rfl rfl)
theorem dX1_takes_119 : decode cX1_takes 119 = .ok (.iconst 0, 1) := dk_3 (dk_at dksX1_takes_4 23 rfl rfl)
theorem dX1_takes_120 : decode cX1_takes 120 = .ok (.istore_n 2, 1) := dk_61 (dk_at dksX1_takes_5 0 rfl rfl)
theorem dX1_takes_121 : decode cX1_takes 121 = .ok (.iload_n 2, 1) := dk_28 (dk_at dksX1_takes_5 1 rfl rfl)
theorem dX1_takes_122 : decode cX1_takes 122 = .ok (.aload_n 0, 1) := dk_42 (dk_at dksX1_takes_5 2 rfl rfl)
theorem dX1_takes_123 : decode cX1_takes 123 = .ok (.getfield 72, 3) := dk_180 0 72 (dk_at dksX1_takes_5 3 rfl rfl)
theorem dX1_takes_126 : decode cX1_takes 126 = .ok (.if_icmp .ge 45, 3) := dk_162 0 45 (dk_at dksX1_takes_5 6 rfl rfl)
theorem dX1_takes_129 : decode cX1_takes 129 = .ok (.aload_n 0, 1) := dk_42 (dk_at dksX1_takes_5 9 rfl rfl)
theorem dX1_takes_130 : decode cX1_takes 130 = .ok (.getfield 30, 3) := dk_180 0 30 (dk_at dksX1_takes_5 10 rfl rfl)
theorem dX1_takes_133 : decode cX1_takes 133 = .ok (.iload_n 2, 1) := dk_28 (dk_at dksX1_takes_5 13 rfl rfl)
theorem dX1_takes_134 : decode cX1_takes 134 = .ok (.aload_n 1, 1) := dk_43 (dk_at dksX1_takes_5 14 rfl rfl)
theorem dX1_takes_135 : decode cX1_takes 135 = .ok (.getfield 30, 3) := dk_180 0 30 (dk_at dksX1_takes_5 15 rfl rfl)
theorem dX1_takes_138 : decode cX1_takes 138 = .ok (.iload_n 2, 1) := dk_28 (dk_at dksX1_takes_5 18 rfl rfl)
theorem dX1_takes_139 : decode cX1_takes 139 = .ok (.iaload, 1) := dk_46 (dk_at dksX1_takes_5 19 rfl rfl)
theorem dX1_takes_140 : decode cX1_takes 140 = .ok (.iastore, 1) := dk_79 (dk_at dksX1_takes_5 20 rfl rfl)
theorem dX1_takes_141 : decode cX1_takes 141 = .ok (.aload_n 0, 1) := dk_42 (dk_at dksX1_takes_5 21 rfl rfl)
theorem dX1_takes_142 : decode cX1_takes 142 = .ok (.getfield 33, 3) := dk_180 0 33 (dk_at dksX1_takes_6 0 rfl rfl)
theorem dX1_takes_145 : decode cX1_takes 145 = .ok (.iload_n 2, 1) := dk_28 (dk_at dksX1_takes_6 3 rfl rfl)
theorem dX1_takes_146 : decode cX1_takes 146 = .ok (.aload_n 1, 1) := dk_43 (dk_at dksX1_takes_6 4 rfl rfl)
theorem dX1_takes_147 : decode cX1_takes 147 = .ok (.getfield 33, 3) := dk_180 0 33 (dk_at dksX1_takes_6 5 rfl rfl)
theorem dX1_takes_150 : decode cX1_takes 150 = .ok (.iload_n 2, 1) := dk_28 (dk_at dksX1_takes_6 8 rfl rfl)
theorem dX1_takes_151 : decode cX1_takes 151 = .ok (.iaload, 1) := dk_46 (dk_at dksX1_takes_6 9 rfl rfl)
theorem dX1_takes_152 : decode cX1_takes 152 = .ok (.iastore, 1) := dk_79 (dk_at dksX1_takes_6 10 rfl rfl)
theorem dX1_takes_153 : decode cX1_takes 153 = .ok (.aload_n 0, 1) := dk_42 (dk_at dksX1_takes_6 11 rfl rfl)
theorem dX1_takes_154 : decode cX1_takes 154 = .ok (.getfield 36, 3) := dk_180 0 36 (dk_at dksX1_takes_6 12 rfl rfl)
theorem dX1_takes_157 : decode cX1_takes 157 = .ok (.iload_n 2, 1) := dk_28 (dk_at dksX1_takes_6 15 rfl rfl)
theorem dX1_takes_158 : decode cX1_takes 158 = .ok (.aload_n 1, 1) := dk_43 (dk_at dksX1_takes_6 16 rfl rfl)
theorem dX1_takes_159 : decode cX1_takes 159 = .ok (.getfield 36, 3) := dk_180 0 36 (dk_at dksX1_takes_6 17 rfl rfl)
theorem dX1_takes_162 : decode cX1_takes 162 = .ok (.iload_n 2, 1) := dk_28 (dk_at dksX1_takes_6 20 rfl rfl)
theorem dX1_takes_163 : decode cX1_takes 163 = .ok (.iaload, 1) := dk_46 (dk_at dksX1_takes_6 21 rfl rfl)
theorem dX1_takes_164 : decode cX1_takes 164 = .ok (.iastore, 1) := dk_79 (dk_at dksX1_takes_6 22 rfl rfl)
theorem dX1_takes_165 : decode cX1_takes 165 = .ok (.iinc 2 1, 3) := dk_132 2 1 (dk_at dksX1_takes_7 0 rfl rfl)
theorem dX1_takes_168 : decode cX1_takes 168 = .ok (.goto (-47), 3) := dk_167 255 209 (dk_at dksX1_takes_7 3 rfl rfl)
theorem dX1_takes_171 : decode cX1_takes 171 = .ok (.iconst 0, 1) := dk_3 (dk_at dksX1_takes_7 6 rfl rfl)
theorem dX1_takes_172 : decode cX1_takes 172 = .ok (.istore_n 2, 1) := dk_61 (dk_at dksX1_takes_7 7 rfl rfl)
theorem dX1_takes_173 : decode cX1_takes 173 = .ok (.iload_n 2, 1) := dk_28 (dk_at dksX1_takes_7 8 rfl rfl)
theorem dX1_takes_174 : decode cX1_takes 174 = .ok (.aload_n 0, 1) := dk_42 (dk_at dksX1_takes_7 9 rfl rfl)
theorem dX1_takes_175 : decode cX1_takes 175 = .ok (.getfield 78, 3) := dk_180 0 78 (dk_at dksX1_takes_7 10 rfl rfl)
theorem dX1_takes_178 : decode cX1_takes 178 = .ok (.if_icmp .ge 38, 3) := dk_162 0 38 (dk_at dksX1_takes_7 13 rfl rfl)
theorem dX1_takes_181 : decode cX1_takes 181 = .ok (.iconst 0, 1) := dk_3 (dk_at dksX1_takes_7 16 rfl rfl)
theorem dX1_takes_182 : decode cX1_takes 182 = .ok (.istore_n 3, 1) := dk_62 (dk_at dksX1_takes_7 17 rfl rfl)
theorem dX1_takes_183 : decode cX1_takes 183 = .ok (.iload_n 3, 1) := dk_29 (dk_at dksX1_takes_7 18 rfl rfl)
theorem dX1_takes_184 : decode cX1_takes 184 = .ok (.iconst 4, 1) := dk_7 (dk_at dksX1_takes_7 19 rfl rfl)
theorem dX1_takes_185 : decode cX1_takes 185 = .ok (.if_icmp .ge 25, 3) := dk_162 0 25 (dk_at dksX1_takes_7 20 rfl rfl)
theorem dX1_takes_188 : decode cX1_takes 188 = .ok (.aload_n 0, 1) := dk_42 (dk_at dksX1_takes_7 23 rfl rfl)
theorem dX1_takes_189 : decode cX1_takes 189 = .ok (.getfield 41, 3) := dk_180 0 41 (dk_at dksX1_takes_8 0 rfl rfl)
theorem dX1_takes_192 : decode cX1_takes 192 = .ok (.iload_n 2, 1) := dk_28 (dk_at dksX1_takes_8 3 rfl rfl)
theorem dX1_takes_193 : decode cX1_takes 193 = .ok (.aaload, 1) := dk_50 (dk_at dksX1_takes_8 4 rfl rfl)
theorem dX1_takes_194 : decode cX1_takes 194 = .ok (.iload_n 3, 1) := dk_29 (dk_at dksX1_takes_8 5 rfl rfl)
theorem dX1_takes_195 : decode cX1_takes 195 = .ok (.aload_n 1, 1) := dk_43 (dk_at dksX1_takes_8 6 rfl rfl)
theorem dX1_takes_196 : decode cX1_takes 196 = .ok (.getfield 41, 3) := dk_180 0 41 (dk_at dksX1_takes_8 7 rfl rfl)
theorem dX1_takes_199 : decode cX1_takes 199 = .ok (.iload_n 2, 1) := dk_28 (dk_at dksX1_takes_8 10 rfl rfl)
theorem dX1_takes_200 : decode cX1_takes 200 = .ok (.aaload, 1) := dk_50 (dk_at dksX1_takes_8 11 rfl rfl)
theorem dX1_takes_201 : decode cX1_takes 201 = .ok (.iload_n 3, 1) := dk_29 (dk_at dksX1_takes_8 12 rfl rfl)
theorem dX1_takes_202 : decode cX1_takes 202 = .ok (.iaload, 1) := dk_46 (dk_at dksX1_takes_8 13 rfl rfl)
theorem dX1_takes_203 : decode cX1_takes 203 = .ok (.iastore, 1) := dk_79 (dk_at dksX1_takes_8 14 rfl rfl)
theorem dX1_takes_204 : decode cX1_takes 204 = .ok (.iinc 3 1, 3) := dk_132 3 1 (dk_at dksX1_takes_8 15 rfl rfl)
theorem dX1_takes_207 : decode cX1_takes 207 = .ok (.goto (-24), 3) := dk_167 255 232 (dk_at dksX1_takes_8 18 rfl rfl)
theorem dX1_takes_210 : decode cX1_takes 210 = .ok (.iinc 2 1, 3) := dk_132 2 1 (dk_at dksX1_takes_8 21 rfl rfl)
theorem dX1_takes_213 : decode cX1_takes 213 = .ok (.goto (-40), 3) := dk_167 255 216 (dk_at dksX1_takes_9 0 rfl rfl)
theorem dX1_takes_216 : decode cX1_takes 216 = .ok (.return_, 1) := dk_177 (dk_at dksX1_takes_9 3 rfl rfl)
abbrev cX1_goesOn : ByteArray := prog_12_method_16_code
def yX1_goesOn : MethodName := ⟨RX1, "goesOn", "()V"⟩
def dkwX1_goesOn_1 : List UInt8 := [177]
abbrev dktX1_goesOn_1 : List UInt8 := dkwX1_goesOn_1 ++ []
def dkwX1_goesOn_0 : List UInt8 := [42, 182, 0, 164, 42, 2, 182, 0, 176, 42, 3, 181, 0, 81, 42, 89, 180, 0, 69, 4, 96, 181, 0, 69]
abbrev dktX1_goesOn_0 : List UInt8 := dkwX1_goesOn_0 ++ dktX1_goesOn_1
theorem dksX1_goesOn_0 : cX1_goesOn.data.toList.drop 0 = dktX1_goesOn_0 := by decide +kernel
theorem dksX1_goesOn_1 : cX1_goesOn.data.toList.drop 24 = dktX1_goesOn_1 := dk_seg dksX1_goesOn_0 24 rfl rfl
theorem dX1_goesOn_0 : decode cX1_goesOn 0 = .ok (.aload_n 0, 1) := dk_42 (dk_at dksX1_goesOn_0 0 rfl rfl)
theorem dX1_goesOn_1 : decode cX1_goesOn 1 = .ok (.invokevirtual 164, 3) := dk_182 0 164 (dk_at dksX1_goesOn_0 1 rfl rfl)
theorem dX1_goesOn_4 : decode cX1_goesOn 4 = .ok (.aload_n 0, 1) := dk_42 (dk_at dksX1_goesOn_0 4 rfl rfl)
theorem dX1_goesOn_5 : decode cX1_goesOn 5 = .ok (.iconst (-1), 1) := dk_2 (dk_at dksX1_goesOn_0 5 rfl rfl)
theorem dX1_goesOn_6 : decode cX1_goesOn 6 = .ok (.invokevirtual 176, 3) := dk_182 0 176 (dk_at dksX1_goesOn_0 6 rfl rfl)
theorem dX1_goesOn_9 : decode cX1_goesOn 9 = .ok (.aload_n 0, 1) := dk_42 (dk_at dksX1_goesOn_0 9 rfl rfl)
theorem dX1_goesOn_10 : decode cX1_goesOn 10 = .ok (.iconst 0, 1) := dk_3 (dk_at dksX1_goesOn_0 10 rfl rfl)
theorem dX1_goesOn_11 : decode cX1_goesOn 11 = .ok (.putfield 81, 3) := dk_181 0 81 (dk_at dksX1_goesOn_0 11 rfl rfl)
theorem dX1_goesOn_14 : decode cX1_goesOn 14 = .ok (.aload_n 0, 1) := dk_42 (dk_at dksX1_goesOn_0 14 rfl rfl)
theorem dX1_goesOn_15 : decode cX1_goesOn 15 = .ok (.dup, 1) := dk_89 (dk_at dksX1_goesOn_0 15 rfl rfl)
theorem dX1_goesOn_16 : decode cX1_goesOn 16 = .ok (.getfield 69, 3) := dk_180 0 69 (dk_at dksX1_goesOn_0 16 rfl rfl)
theorem dX1_goesOn_19 : decode cX1_goesOn 19 = .ok (.iconst 1, 1) := dk_4 (dk_at dksX1_goesOn_0 19 rfl rfl)
theorem dX1_goesOn_20 : decode cX1_goesOn 20 = .ok (.iadd, 1) := dk_96 (dk_at dksX1_goesOn_0 20 rfl rfl)
theorem dX1_goesOn_21 : decode cX1_goesOn 21 = .ok (.putfield 69, 3) := dk_181 0 69 (dk_at dksX1_goesOn_0 21 rfl rfl)
theorem dX1_goesOn_24 : decode cX1_goesOn 24 = .ok (.return_, 1) := dk_177 (dk_at dksX1_goesOn_1 0 rfl rfl)
theorem q92 : (Jvm.Cond.initialized "LastWordWood$Wood") ∈ lw_all := lw_g (lw_at lw_m1 2 rfl) rfl
theorem q127 : (Jvm.Cond.instantiable "LastWordWood$Wood" (25 : Nat)) ∈ lw_all := lw_g (lw_at lw_m1 37 rfl) rfl
theorem q129 : (Jvm.Cond.instanceMethod ({ cls := "LastWordWood$Wood", name := "<init>", desc := "()V" } : Jvm.MethodName)) ∈ lw_all := lw_g (lw_at lw_m1 39 rfl) rfl
theorem q130 : (Jvm.Cond.code ({ cls := "LastWordWood$Wood", name := "<init>", desc := "()V" } : Jvm.MethodName) prog_12_method_1_code (2 : Nat) (Option.none : Option Jvm.ClassFile.FieldType)) ∈ lw_all := lw_g (lw_at lw_m1 40 rfl) rfl
theorem q131 : (Jvm.Cond.methodLink "LastWordWood$Wood" (3 : Nat) ({ cls := "java/lang/Object", name := "<init>", desc := "()V" } : Jvm.MethodName)) ∈ lw_all := lw_g (lw_at lw_m1 41 rfl) rfl
theorem q132 : (Jvm.Cond.classLink "LastWordWood$Wood" (39 : Nat) "[[I") ∈ lw_all := lw_g (lw_at lw_m1 42 rfl) rfl
theorem q134 : (Jvm.Cond.classLink "LastWordWood$Wood" (44 : Nat) "LastWordWood$Person") ∈ lw_all := lw_g (lw_at lw_m1 44 rfl) rfl
theorem q136 : (Jvm.Cond.classLink "LastWordWood$Wood" (50 : Nat) "java/util/ArrayList") ∈ lw_all := lw_g (lw_at lw_m1 46 rfl) rfl
theorem q138 : (Jvm.Cond.methodLink "LastWordWood$Wood" (52 : Nat) ({ cls := "java/util/ArrayList", name := "<init>", desc := "()V" } : Jvm.MethodName)) ∈ lw_all := lw_g (lw_at lw_m1 48 rfl) rfl
theorem q165 : (Jvm.Cond.methodLinkNest "LastWordWood$Wood" (57 : Nat) ({ cls := "LastWordWood$Person", name := "<init>", desc := "()V" } : Jvm.MethodName) "LastWordWood") ∈ lw_tbl := lw_at lw_m1 75 rfl
theorem q174 : (Jvm.Cond.fieldLinkNest "LastWordWood$Wood" (180 : Nat) "LastWordWood$Person" "sick" "I" "LastWordWood") ∈ lw_tbl := lw_at lw_m1 84 rfl
theorem q187 : (Jvm.Cond.methodLink "LastWordWood$Wood" (58 : Nat) ({ cls := "LastWordWood$Wood", name := "begins", desc := "(II)V" } : Jvm.MethodName)) ∈ lw_all := lw_g (lw_at lw_m1 97 rfl) rfl
theorem q188 : (Jvm.Cond.instanceMethod ({ cls := "LastWordWood$Wood", name := "begins", desc := "(II)V" } : Jvm.MethodName)) ∈ lw_all := lw_g (lw_at lw_m1 98 rfl) rfl
theorem q189 : (Jvm.Cond.selects "LastWordWood$Wood" ({ cls := "LastWordWood$Wood", name := "begins", desc := "(II)V" } : Jvm.MethodName) ({ cls := "LastWordWood$Wood", name := "begins", desc := "(II)V" } : Jvm.MethodName)) ∈ lw_all := lw_g (lw_at lw_m1 99 rfl) rfl
theorem q190 : (Jvm.Cond.code ({ cls := "LastWordWood$Wood", name := "begins", desc := "(II)V" } : Jvm.MethodName) prog_12_method_2_code (4 : Nat) (Option.none : Option Jvm.ClassFile.FieldType)) ∈ lw_all := lw_g (lw_at lw_m1 100 rfl) rfl
theorem q191 : (Jvm.Cond.fieldLink "LastWordWood$Wood" (9 : Nat) "LastWordWood$Wood" "damp" "[I") ∈ lw_all := lw_g (lw_at lw_m1 101 rfl) rfl
theorem q193 : (Jvm.Cond.fieldLink "LastWordWood$Wood" (15 : Nat) "LastWordWood$Wood" "word" "[I") ∈ lw_all := lw_g (lw_at lw_m1 103 rfl) rfl
theorem q195 : (Jvm.Cond.fieldLink "LastWordWood$Wood" (18 : Nat) "LastWordWood$Wood" "size" "[I") ∈ lw_all := lw_g (lw_at lw_m1 105 rfl) rfl
theorem q197 : (Jvm.Cond.fieldLink "LastWordWood$Wood" (21 : Nat) "LastWordWood$Wood" "came" "[I") ∈ lw_all := lw_g (lw_at lw_m1 107 rfl) rfl
theorem q199 : (Jvm.Cond.fieldLink "LastWordWood$Wood" (24 : Nat) "LastWordWood$Wood" "by" "[I") ∈ lw_all := lw_g (lw_at lw_m1 109 rfl) rfl
theorem q201 : (Jvm.Cond.fieldLink "LastWordWood$Wood" (27 : Nat) "LastWordWood$Wood" "grown" "[I") ∈ lw_all := lw_g (lw_at lw_m1 111 rfl) rfl
theorem q202 : (Jvm.Cond.fieldLink "LastWordWood$Wood" (30 : Nat) "LastWordWood$Wood" "worth" "[I") ∈ lw_all := lw_g (lw_at lw_m1 112 rfl) rfl
theorem q204 : (Jvm.Cond.fieldLink "LastWordWood$Wood" (33 : Nat) "LastWordWood$Wood" "poison" "[I") ∈ lw_all := lw_g (lw_at lw_m1 114 rfl) rfl
theorem q206 : (Jvm.Cond.fieldLink "LastWordWood$Wood" (36 : Nat) "LastWordWood$Wood" "cures" "[I") ∈ lw_all := lw_g (lw_at lw_m1 116 rfl) rfl
theorem q208 : (Jvm.Cond.fieldLink "LastWordWood$Wood" (41 : Nat) "LastWordWood$Wood" "book" "[[I") ∈ lw_all := lw_g (lw_at lw_m1 118 rfl) rfl
theorem q210 : (Jvm.Cond.fieldLink "LastWordWood$Wood" (46 : Nat) "LastWordWood$Wood" "people" "[LLastWordWood$Person;") ∈ lw_all := lw_g (lw_at lw_m1 120 rfl) rfl
theorem q212 : (Jvm.Cond.fieldLink "LastWordWood$Wood" (53 : Nat) "LastWordWood$Wood" "law" "Ljava/util/ArrayList;") ∈ lw_all := lw_g (lw_at lw_m1 122 rfl) rfl
theorem q214 : (Jvm.Cond.fieldLink "LastWordWood$Wood" (62 : Nat) "LastWordWood$Wood" "w" "I") ∈ lw_all := lw_g (lw_at lw_m1 124 rfl) rfl
theorem q216 : (Jvm.Cond.fieldLink "LastWordWood$Wood" (66 : Nat) "LastWordWood$Wood" "h" "I") ∈ lw_all := lw_g (lw_at lw_m1 126 rfl) rfl
theorem q218 : (Jvm.Cond.fieldLink "LastWordWood$Wood" (69 : Nat) "LastWordWood$Wood" "day" "I") ∈ lw_all := lw_g (lw_at lw_m1 128 rfl) rfl
theorem q220 : (Jvm.Cond.fieldLink "LastWordWood$Wood" (72 : Nat) "LastWordWood$Wood" "words" "I") ∈ lw_all := lw_g (lw_at lw_m1 130 rfl) rfl
theorem q222 : (Jvm.Cond.fieldLink "LastWordWood$Wood" (75 : Nat) "LastWordWood$Wood" "many" "I") ∈ lw_all := lw_g (lw_at lw_m1 132 rfl) rfl
theorem q224 : (Jvm.Cond.fieldLink "LastWordWood$Wood" (78 : Nat) "LastWordWood$Wood" "lines" "I") ∈ lw_all := lw_g (lw_at lw_m1 134 rfl) rfl
theorem q226 : (Jvm.Cond.fieldLink "LastWordWood$Wood" (100 : Nat) "LastWordWood$Wood" "state" "I") ∈ lw_all := lw_g (lw_at lw_m1 136 rfl) rfl
theorem q228 : (Jvm.Cond.fieldLink "LastWordWood$Wood" (81 : Nat) "LastWordWood$Wood" "frozen" "I") ∈ lw_all := lw_g (lw_at lw_m1 138 rfl) rfl
theorem q230 : (Jvm.Cond.fieldLink "LastWordWood$Wood" (84 : Nat) "LastWordWood$Wood" "asked" "I") ∈ lw_all := lw_g (lw_at lw_m1 140 rfl) rfl
theorem q232 : (Jvm.Cond.fieldLink "LastWordWood$Wood" (87 : Nat) "LastWordWood$Wood" "rain" "I") ∈ lw_all := lw_g (lw_at lw_m1 142 rfl) rfl
theorem q234 : (Jvm.Cond.fieldLink "LastWordWood$Wood" (90 : Nat) "LastWordWood$Wood" "frost" "I") ∈ lw_all := lw_g (lw_at lw_m1 144 rfl) rfl
theorem q236 : (Jvm.Cond.fieldLink "LastWordWood$Wood" (93 : Nat) "LastWordWood$Wood" "deer" "I") ∈ lw_all := lw_g (lw_at lw_m1 146 rfl) rfl
theorem q238 : (Jvm.Cond.fieldLink "LastWordWood$Wood" (120 : Nat) "LastWordWood$Wood" "cell" "I") ∈ lw_all := lw_g (lw_at lw_m1 148 rfl) rfl
theorem q239 : (Jvm.Cond.laysFinal "LastWordWood$Wood" "LastWordWood$Wood" "damp" "[I") ∈ lw_all := lw_g (lw_at lw_m1 149 rfl) rfl
theorem q240 : (Jvm.Cond.soleField "LastWordWood$Wood" "damp") ∈ lw_all := lw_g (lw_at lw_m1 150 rfl) rfl
theorem q241 : (Jvm.Cond.laysFinal "LastWordWood$Wood" "LastWordWood$Wood" "word" "[I") ∈ lw_all := lw_g (lw_at lw_m1 151 rfl) rfl
theorem q242 : (Jvm.Cond.soleField "LastWordWood$Wood" "word") ∈ lw_all := lw_g (lw_at lw_m1 152 rfl) rfl
theorem q243 : (Jvm.Cond.laysFinal "LastWordWood$Wood" "LastWordWood$Wood" "size" "[I") ∈ lw_all := lw_g (lw_at lw_m1 153 rfl) rfl
theorem q244 : (Jvm.Cond.soleField "LastWordWood$Wood" "size") ∈ lw_all := lw_g (lw_at lw_m1 154 rfl) rfl
theorem q245 : (Jvm.Cond.laysFinal "LastWordWood$Wood" "LastWordWood$Wood" "came" "[I") ∈ lw_all := lw_g (lw_at lw_m1 155 rfl) rfl
theorem q246 : (Jvm.Cond.soleField "LastWordWood$Wood" "came") ∈ lw_all := lw_g (lw_at lw_m1 156 rfl) rfl
theorem q247 : (Jvm.Cond.laysFinal "LastWordWood$Wood" "LastWordWood$Wood" "by" "[I") ∈ lw_all := lw_g (lw_at lw_m1 157 rfl) rfl
theorem q248 : (Jvm.Cond.soleField "LastWordWood$Wood" "by") ∈ lw_all := lw_g (lw_at lw_m1 158 rfl) rfl
theorem q249 : (Jvm.Cond.laysFinal "LastWordWood$Wood" "LastWordWood$Wood" "grown" "[I") ∈ lw_all := lw_g (lw_at lw_m1 159 rfl) rfl
theorem q250 : (Jvm.Cond.soleField "LastWordWood$Wood" "grown") ∈ lw_all := lw_g (lw_at lw_m1 160 rfl) rfl
theorem q251 : (Jvm.Cond.laysFinal "LastWordWood$Wood" "LastWordWood$Wood" "worth" "[I") ∈ lw_all := lw_g (lw_at lw_m1 161 rfl) rfl
theorem q252 : (Jvm.Cond.soleField "LastWordWood$Wood" "worth") ∈ lw_all := lw_g (lw_at lw_m1 162 rfl) rfl
theorem q253 : (Jvm.Cond.laysFinal "LastWordWood$Wood" "LastWordWood$Wood" "poison" "[I") ∈ lw_all := lw_g (lw_at lw_m1 163 rfl) rfl
theorem q254 : (Jvm.Cond.soleField "LastWordWood$Wood" "poison") ∈ lw_all := lw_g (lw_at lw_m1 164 rfl) rfl
theorem q255 : (Jvm.Cond.laysFinal "LastWordWood$Wood" "LastWordWood$Wood" "cures" "[I") ∈ lw_all := lw_g (lw_at lw_m1 165 rfl) rfl
theorem q256 : (Jvm.Cond.soleField "LastWordWood$Wood" "cures") ∈ lw_all := lw_g (lw_at lw_m1 166 rfl) rfl
theorem q257 : (Jvm.Cond.laysFinal "LastWordWood$Wood" "LastWordWood$Wood" "book" "[[I") ∈ lw_all := lw_g (lw_at lw_m1 167 rfl) rfl
theorem q258 : (Jvm.Cond.soleField "LastWordWood$Wood" "book") ∈ lw_all := lw_g (lw_at lw_m1 168 rfl) rfl
theorem q259 : (Jvm.Cond.laysFinal "LastWordWood$Wood" "LastWordWood$Wood" "people" "[LLastWordWood$Person;") ∈ lw_all := lw_g (lw_at lw_m1 169 rfl) rfl
theorem q260 : (Jvm.Cond.soleField "LastWordWood$Wood" "people") ∈ lw_all := lw_g (lw_at lw_m1 170 rfl) rfl
theorem q261 : (Jvm.Cond.lays "LastWordWood$Wood" "LastWordWood$Wood" "law" "Ljava/util/ArrayList;") ∈ lw_all := lw_g (lw_at lw_m1 171 rfl) rfl
theorem q262 : (Jvm.Cond.soleField "LastWordWood$Wood" "law") ∈ lw_all := lw_g (lw_at lw_m1 172 rfl) rfl
theorem q263 : (Jvm.Cond.lays "LastWordWood$Wood" "LastWordWood$Wood" "w" "I") ∈ lw_all := lw_g (lw_at lw_m1 173 rfl) rfl
theorem q264 : (Jvm.Cond.soleField "LastWordWood$Wood" "w") ∈ lw_all := lw_g (lw_at lw_m1 174 rfl) rfl
theorem q265 : (Jvm.Cond.lays "LastWordWood$Wood" "LastWordWood$Wood" "h" "I") ∈ lw_all := lw_g (lw_at lw_m1 175 rfl) rfl
theorem q266 : (Jvm.Cond.soleField "LastWordWood$Wood" "h") ∈ lw_all := lw_g (lw_at lw_m1 176 rfl) rfl
theorem q267 : (Jvm.Cond.lays "LastWordWood$Wood" "LastWordWood$Wood" "day" "I") ∈ lw_all := lw_g (lw_at lw_m1 177 rfl) rfl
theorem q268 : (Jvm.Cond.soleField "LastWordWood$Wood" "day") ∈ lw_all := lw_g (lw_at lw_m1 178 rfl) rfl
theorem q269 : (Jvm.Cond.lays "LastWordWood$Wood" "LastWordWood$Wood" "words" "I") ∈ lw_all := lw_g (lw_at lw_m1 179 rfl) rfl
theorem q270 : (Jvm.Cond.soleField "LastWordWood$Wood" "words") ∈ lw_all := lw_g (lw_at lw_m1 180 rfl) rfl
theorem q271 : (Jvm.Cond.lays "LastWordWood$Wood" "LastWordWood$Wood" "many" "I") ∈ lw_all := lw_g (lw_at lw_m1 181 rfl) rfl
theorem q272 : (Jvm.Cond.soleField "LastWordWood$Wood" "many") ∈ lw_all := lw_g (lw_at lw_m1 182 rfl) rfl
theorem q273 : (Jvm.Cond.lays "LastWordWood$Wood" "LastWordWood$Wood" "lines" "I") ∈ lw_all := lw_g (lw_at lw_m1 183 rfl) rfl
theorem q274 : (Jvm.Cond.soleField "LastWordWood$Wood" "lines") ∈ lw_all := lw_g (lw_at lw_m1 184 rfl) rfl
theorem q275 : (Jvm.Cond.lays "LastWordWood$Wood" "LastWordWood$Wood" "state" "I") ∈ lw_all := lw_g (lw_at lw_m1 185 rfl) rfl
theorem q276 : (Jvm.Cond.soleField "LastWordWood$Wood" "state") ∈ lw_all := lw_g (lw_at lw_m1 186 rfl) rfl
theorem q277 : (Jvm.Cond.lays "LastWordWood$Wood" "LastWordWood$Wood" "frozen" "I") ∈ lw_all := lw_g (lw_at lw_m1 187 rfl) rfl
theorem q278 : (Jvm.Cond.soleField "LastWordWood$Wood" "frozen") ∈ lw_all := lw_g (lw_at lw_m1 188 rfl) rfl
theorem q279 : (Jvm.Cond.lays "LastWordWood$Wood" "LastWordWood$Wood" "asked" "I") ∈ lw_all := lw_g (lw_at lw_m1 189 rfl) rfl
theorem q280 : (Jvm.Cond.soleField "LastWordWood$Wood" "asked") ∈ lw_all := lw_g (lw_at lw_m1 190 rfl) rfl
theorem q281 : (Jvm.Cond.lays "LastWordWood$Wood" "LastWordWood$Wood" "rain" "I") ∈ lw_all := lw_g (lw_at lw_m1 191 rfl) rfl
theorem q282 : (Jvm.Cond.soleField "LastWordWood$Wood" "rain") ∈ lw_all := lw_g (lw_at lw_m1 192 rfl) rfl
theorem q283 : (Jvm.Cond.lays "LastWordWood$Wood" "LastWordWood$Wood" "frost" "I") ∈ lw_all := lw_g (lw_at lw_m1 193 rfl) rfl
theorem q284 : (Jvm.Cond.soleField "LastWordWood$Wood" "frost") ∈ lw_all := lw_g (lw_at lw_m1 194 rfl) rfl
theorem q285 : (Jvm.Cond.lays "LastWordWood$Wood" "LastWordWood$Wood" "deer" "I") ∈ lw_all := lw_g (lw_at lw_m1 195 rfl) rfl
theorem q286 : (Jvm.Cond.soleField "LastWordWood$Wood" "deer") ∈ lw_all := lw_g (lw_at lw_m1 196 rfl) rfl
theorem q287 : (Jvm.Cond.lays "LastWordWood$Wood" "LastWordWood$Wood" "cell" "I") ∈ lw_all := lw_g (lw_at lw_m1 197 rfl) rfl
theorem q288 : (Jvm.Cond.soleField "LastWordWood$Wood" "cell") ∈ lw_all := lw_g (lw_at lw_m1 198 rfl) rfl
theorem q289 : (Jvm.Cond.superclass "LastWordWood$Wood" "java/lang/Object") ∈ lw_all := lw_g (lw_at lw_m1 199 rfl) rfl
theorem q637 : (Jvm.Cond.fieldLinkNest "LastWordWood$Wood" (150 : Nat) "LastWordWood$Line" "grows" "LLastWordWood$Term;" "LastWordWood") ∈ lw_tbl := lw_at lw_m3 67 rfl
theorem q639 : (Jvm.Cond.fieldLinkNest "LastWordWood$Wood" (140 : Nat) "LastWordWood$Line" "when" "LLastWordWood$Term;" "LastWordWood") ∈ lw_tbl := lw_at lw_m3 69 rfl
theorem q686 : (Jvm.Cond.selects "LastWordWood$Wood" ({ cls := "java/lang/Object", name := "getClass", desc := "()Ljava/lang/Class;" } : Jvm.MethodName) ({ cls := "java/lang/Object", name := "getClass", desc := "()Ljava/lang/Class;" } : Jvm.MethodName)) ∈ lw_all := lw_g (lw_at lw_m3 116 rfl) rfl
theorem q714 : (Jvm.Cond.instanceMethod ({ cls := "LastWordWood$Wood", name := "moves", desc := "(LLastWordWood$Wood;)V" } : Jvm.MethodName)) ∈ lw_all := lw_g (lw_at lw_m3 144 rfl) rfl
theorem q715 : (Jvm.Cond.selects "LastWordWood$Wood" ({ cls := "LastWordWood$Wood", name := "moves", desc := "(LLastWordWood$Wood;)V" } : Jvm.MethodName) ({ cls := "LastWordWood$Wood", name := "moves", desc := "(LLastWordWood$Wood;)V" } : Jvm.MethodName)) ∈ lw_all := lw_g (lw_at lw_m3 145 rfl) rfl
theorem q716 : (Jvm.Cond.code ({ cls := "LastWordWood$Wood", name := "moves", desc := "(LLastWordWood$Wood;)V" } : Jvm.MethodName) prog_12_method_3_code (3 : Nat) (Option.none : Option Jvm.ClassFile.FieldType)) ∈ lw_all := lw_g (lw_at lw_m3 146 rfl) rfl
theorem q717 : (Jvm.Cond.methodLink "LastWordWood$Wood" (96 : Nat) ({ cls := "LastWordWood$Person", name := "takes", desc := "(LLastWordWood$Person;)V" } : Jvm.MethodName)) ∈ lw_all := lw_g (lw_at lw_m3 147 rfl) rfl
theorem q739 : (Jvm.Cond.instanceMethod ({ cls := "LastWordWood$Wood", name := "isCell", desc := "(I)Z" } : Jvm.MethodName)) ∈ lw_all := lw_g (lw_at lw_m3 169 rfl) rfl
theorem q740 : (Jvm.Cond.selects "LastWordWood$Wood" ({ cls := "LastWordWood$Wood", name := "isCell", desc := "(I)Z" } : Jvm.MethodName) ({ cls := "LastWordWood$Wood", name := "isCell", desc := "(I)Z" } : Jvm.MethodName)) ∈ lw_all := lw_g (lw_at lw_m3 170 rfl) rfl
theorem q741 : (Jvm.Cond.code ({ cls := "LastWordWood$Wood", name := "isCell", desc := "(I)Z" } : Jvm.MethodName) prog_12_method_6_code (2 : Nat) (Option.some Jvm.ClassFile.FieldType.boolean)) ∈ lw_all := lw_g (lw_at lw_m3 171 rfl) rfl
theorem q742 : (Jvm.Cond.methodLinkNest "LastWordWood$Wood" (109 : Nat) ({ cls := "LastWordWood", name := "isIn", desc := "(III)Z" } : Jvm.MethodName) "LastWordWood") ∈ lw_tbl := lw_at lw_m3 172 rfl
theorem q780 : (Jvm.Cond.instanceMethod ({ cls := "LastWordWood$Wood", name := "hasCap", desc := "(I)Z" } : Jvm.MethodName)) ∈ lw_all := lw_g (lw_at lw_m3 210 rfl) rfl
theorem q781 : (Jvm.Cond.selects "LastWordWood$Wood" ({ cls := "LastWordWood$Wood", name := "hasCap", desc := "(I)Z" } : Jvm.MethodName) ({ cls := "LastWordWood$Wood", name := "hasCap", desc := "(I)Z" } : Jvm.MethodName)) ∈ lw_all := lw_g (lw_at lw_m3 211 rfl) rfl
theorem q782 : (Jvm.Cond.code ({ cls := "LastWordWood$Wood", name := "hasCap", desc := "(I)Z" } : Jvm.MethodName) prog_12_method_7_code (2 : Nat) (Option.some Jvm.ClassFile.FieldType.boolean)) ∈ lw_all := lw_g (lw_at lw_m3 212 rfl) rfl
theorem q783 : (Jvm.Cond.methodLink "LastWordWood$Wood" (113 : Nat) ({ cls := "LastWordWood$Wood", name := "isCell", desc := "(I)Z" } : Jvm.MethodName)) ∈ lw_all := lw_g (lw_at lw_m3 213 rfl) rfl
theorem q798 : (Jvm.Cond.instanceMethod ({ cls := "LastWordWood$Wood", name := "endsDay", desc := "()I" } : Jvm.MethodName)) ∈ lw_all := lw_g (lw_at lw_m3 228 rfl) rfl
theorem q799 : (Jvm.Cond.selects "LastWordWood$Wood" ({ cls := "LastWordWood$Wood", name := "endsDay", desc := "()I" } : Jvm.MethodName) ({ cls := "LastWordWood$Wood", name := "endsDay", desc := "()I" } : Jvm.MethodName)) ∈ lw_all := lw_g (lw_at lw_m3 229 rfl) rfl
theorem q800 : (Jvm.Cond.code ({ cls := "LastWordWood$Wood", name := "endsDay", desc := "()I" } : Jvm.MethodName) prog_12_method_15_code (4 : Nat) (Option.some Jvm.ClassFile.FieldType.int)) ∈ lw_all := lw_g (lw_at lw_m3 230 rfl) rfl
theorem q801 : (Jvm.Cond.methodLink "LastWordWood$Wood" (164 : Nat) ({ cls := "LastWordWood$Wood", name := "allGrow", desc := "()V" } : Jvm.MethodName)) ∈ lw_all := lw_g (lw_at lw_m3 231 rfl) rfl
theorem q802 : (Jvm.Cond.privateMethod ({ cls := "LastWordWood$Wood", name := "allGrow", desc := "()V" } : Jvm.MethodName)) ∈ lw_tbl := lw_at lw_m3 232 rfl
theorem q803 : (Jvm.Cond.instanceMethod ({ cls := "LastWordWood$Wood", name := "allGrow", desc := "()V" } : Jvm.MethodName)) ∈ lw_all := lw_g (lw_at lw_m3 233 rfl) rfl
theorem q804 : (Jvm.Cond.code ({ cls := "LastWordWood$Wood", name := "allGrow", desc := "()V" } : Jvm.MethodName) prog_12_method_11_code (2 : Nat) (Option.none : Option Jvm.ClassFile.FieldType)) ∈ lw_all := lw_g (lw_at lw_m3 234 rfl) rfl
theorem q805 : (Jvm.Cond.methodLink "LastWordWood$Wood" (117 : Nat) ({ cls := "LastWordWood$Wood", name := "hasCap", desc := "(I)Z" } : Jvm.MethodName)) ∈ lw_all := lw_g (lw_at lw_m3 235 rfl) rfl
theorem q806 : (Jvm.Cond.methodLink "LastWordWood$Wood" (161 : Nat) ({ cls := "LastWordWood$Wood", name := "grows", desc := "(I)I" } : Jvm.MethodName)) ∈ lw_all := lw_g (lw_at lw_m3 236 rfl) rfl
theorem q807 : (Jvm.Cond.instanceMethod ({ cls := "LastWordWood$Wood", name := "grows", desc := "(I)I" } : Jvm.MethodName)) ∈ lw_all := lw_g (lw_at lw_m3 237 rfl) rfl
theorem q808 : (Jvm.Cond.selects "LastWordWood$Wood" ({ cls := "LastWordWood$Wood", name := "grows", desc := "(I)I" } : Jvm.MethodName) ({ cls := "LastWordWood$Wood", name := "grows", desc := "(I)I" } : Jvm.MethodName)) ∈ lw_all := lw_g (lw_at lw_m3 238 rfl) rfl
theorem q809 : (Jvm.Cond.code ({ cls := "LastWordWood$Wood", name := "grows", desc := "(I)I" } : Jvm.MethodName) prog_12_method_10_code (4 : Nat) (Option.some Jvm.ClassFile.FieldType.int)) ∈ lw_all := lw_g (lw_at lw_m3 239 rfl) rfl
theorem q810 : (Jvm.Cond.methodLink "LastWordWood$Wood" (131 : Nat) ({ cls := "java/util/ArrayList", name := "size", desc := "()I" } : Jvm.MethodName)) ∈ lw_all := lw_g (lw_at lw_m4 0 rfl) rfl
theorem q811 : (Jvm.Cond.methodLink "LastWordWood$Wood" (134 : Nat) ({ cls := "java/util/ArrayList", name := "get", desc := "(I)Ljava/lang/Object;" } : Jvm.MethodName)) ∈ lw_all := lw_g (lw_at lw_m4 1 rfl) rfl
theorem q823 : (Jvm.Cond.classLink "LastWordWood$Wood" (138 : Nat) "LastWordWood$Line") ∈ lw_all := lw_g (lw_at lw_m4 13 rfl) rfl
theorem q824 : (Jvm.Cond.methodLink "LastWordWood$Wood" (144 : Nat) ({ cls := "LastWordWood$Term", name := "of", desc := "(LLastWordWood$Asker;)I" } : Jvm.MethodName)) ∈ lw_all := lw_g (lw_at lw_m4 14 rfl) rfl
theorem q840 : (Jvm.Cond.castable "LastWordWood$Wood" "LastWordWood$Asker") ∈ lw_tbl := lw_at lw_m4 30 rfl
theorem q841 : (Jvm.Cond.selects "LastWordWood$Wood" ({ cls := "LastWordWood$Asker", name := "fact", desc := "(I)I" } : Jvm.MethodName) ({ cls := "LastWordWood$Wood", name := "fact", desc := "(I)I" } : Jvm.MethodName)) ∈ lw_all := lw_g (lw_at lw_m4 31 rfl) rfl
theorem q842 : (Jvm.Cond.unhidden "LastWordWood$Wood" "fact" "(I)I") ∈ lw_tbl := lw_at lw_m4 32 rfl
theorem q843 : (Jvm.Cond.instanceMethod ({ cls := "LastWordWood$Wood", name := "fact", desc := "(I)I" } : Jvm.MethodName)) ∈ lw_all := lw_g (lw_at lw_m4 33 rfl) rfl
theorem q844 : (Jvm.Cond.publicMethod ({ cls := "LastWordWood$Wood", name := "fact", desc := "(I)I" } : Jvm.MethodName)) ∈ lw_tbl := lw_at lw_m4 34 rfl
theorem q845 : (Jvm.Cond.code ({ cls := "LastWordWood$Wood", name := "fact", desc := "(I)I" } : Jvm.MethodName) prog_12_method_9_code (2 : Nat) (Option.some Jvm.ClassFile.FieldType.int)) ∈ lw_all := lw_g (lw_at lw_m4 35 rfl) rfl
theorem q846 : (Jvm.Cond.methodLink "LastWordWood$Wood" (127 : Nat) ({ cls := "LastWordWood$Wood", name := "beside", desc := "(Z)I" } : Jvm.MethodName)) ∈ lw_all := lw_g (lw_at lw_m4 36 rfl) rfl
theorem q847 : (Jvm.Cond.privateMethod ({ cls := "LastWordWood$Wood", name := "beside", desc := "(Z)I" } : Jvm.MethodName)) ∈ lw_tbl := lw_at lw_m4 37 rfl
theorem q848 : (Jvm.Cond.instanceMethod ({ cls := "LastWordWood$Wood", name := "beside", desc := "(Z)I" } : Jvm.MethodName)) ∈ lw_all := lw_g (lw_at lw_m4 38 rfl) rfl
theorem q849 : (Jvm.Cond.code ({ cls := "LastWordWood$Wood", name := "beside", desc := "(Z)I" } : Jvm.MethodName) prog_12_method_8_code (4 : Nat) (Option.some Jvm.ClassFile.FieldType.int)) ∈ lw_all := lw_g (lw_at lw_m4 39 rfl) rfl
theorem q850 : (Jvm.Cond.methodLinkNest "LastWordWood$Wood" (123 : Nat) ({ cls := "LastWordWood", name := "far", desc := "(II)I" } : Jvm.MethodName) "LastWordWood") ∈ lw_tbl := lw_at lw_m4 40 rfl
theorem q861 : (Jvm.Cond.methodLink "LastWordWood$Wood" (153 : Nat) ({ cls := "java/lang/Math", name := "min", desc := "(II)I" } : Jvm.MethodName)) ∈ lw_all := lw_g (lw_at lw_m4 51 rfl) rfl
theorem q862 : (Jvm.Cond.methodLink "LastWordWood$Wood" (158 : Nat) ({ cls := "java/lang/Math", name := "max", desc := "(II)I" } : Jvm.MethodName)) ∈ lw_all := lw_g (lw_at lw_m4 52 rfl) rfl
theorem q863 : (Jvm.Cond.methodLink "LastWordWood$Wood" (167 : Nat) ({ cls := "LastWordWood$Wood", name := "caps", desc := "()I" } : Jvm.MethodName)) ∈ lw_all := lw_g (lw_at lw_m4 53 rfl) rfl
theorem q864 : (Jvm.Cond.instanceMethod ({ cls := "LastWordWood$Wood", name := "caps", desc := "()I" } : Jvm.MethodName)) ∈ lw_all := lw_g (lw_at lw_m4 54 rfl) rfl
theorem q865 : (Jvm.Cond.selects "LastWordWood$Wood" ({ cls := "LastWordWood$Wood", name := "caps", desc := "()I" } : Jvm.MethodName) ({ cls := "LastWordWood$Wood", name := "caps", desc := "()I" } : Jvm.MethodName)) ∈ lw_all := lw_g (lw_at lw_m4 55 rfl) rfl
theorem q866 : (Jvm.Cond.code ({ cls := "LastWordWood$Wood", name := "caps", desc := "()I" } : Jvm.MethodName) prog_12_method_13_code (3 : Nat) (Option.some Jvm.ClassFile.FieldType.int)) ∈ lw_all := lw_g (lw_at lw_m4 56 rfl) rfl
theorem q867 : (Jvm.Cond.methodLink "LastWordWood$Wood" (170 : Nat) ({ cls := "LastWordWood$Wood", name := "draw", desc := "(I)I" } : Jvm.MethodName)) ∈ lw_all := lw_g (lw_at lw_m4 57 rfl) rfl
theorem q868 : (Jvm.Cond.instanceMethod ({ cls := "LastWordWood$Wood", name := "draw", desc := "(I)I" } : Jvm.MethodName)) ∈ lw_all := lw_g (lw_at lw_m4 58 rfl) rfl
theorem q869 : (Jvm.Cond.selects "LastWordWood$Wood" ({ cls := "LastWordWood$Wood", name := "draw", desc := "(I)I" } : Jvm.MethodName) ({ cls := "LastWordWood$Wood", name := "draw", desc := "(I)I" } : Jvm.MethodName)) ∈ lw_all := lw_g (lw_at lw_m4 59 rfl) rfl
theorem q870 : (Jvm.Cond.code ({ cls := "LastWordWood$Wood", name := "draw", desc := "(I)I" } : Jvm.MethodName) prog_12_method_5_code (2 : Nat) (Option.some Jvm.ClassFile.FieldType.int)) ∈ lw_all := lw_g (lw_at lw_m4 60 rfl) rfl
theorem q871 : (Jvm.Cond.constant "LastWordWood$Wood" (107 : Nat) (1664525 : Int32)) ∈ lw_all := lw_g (lw_at lw_m4 61 rfl) rfl
theorem q872 : (Jvm.Cond.constant "LastWordWood$Wood" (108 : Nat) (1013904223 : Int32)) ∈ lw_all := lw_g (lw_at lw_m4 62 rfl) rfl
theorem q873 : (Jvm.Cond.methodLink "LastWordWood$Wood" (173 : Nat) ({ cls := "LastWordWood$Wood", name := "capAt", desc := "(I)I" } : Jvm.MethodName)) ∈ lw_all := lw_g (lw_at lw_m4 63 rfl) rfl
theorem q874 : (Jvm.Cond.privateMethod ({ cls := "LastWordWood$Wood", name := "capAt", desc := "(I)I" } : Jvm.MethodName)) ∈ lw_tbl := lw_at lw_m4 64 rfl
theorem q875 : (Jvm.Cond.instanceMethod ({ cls := "LastWordWood$Wood", name := "capAt", desc := "(I)I" } : Jvm.MethodName)) ∈ lw_all := lw_g (lw_at lw_m4 65 rfl) rfl
theorem q876 : (Jvm.Cond.code ({ cls := "LastWordWood$Wood", name := "capAt", desc := "(I)I" } : Jvm.MethodName) prog_12_method_14_code (4 : Nat) (Option.some Jvm.ClassFile.FieldType.int)) ∈ lw_all := lw_g (lw_at lw_m4 66 rfl) rfl
theorem q877 : (Jvm.Cond.methodLink "LastWordWood$Wood" (176 : Nat) ({ cls := "LastWordWood$Wood", name := "allDamp", desc := "(I)V" } : Jvm.MethodName)) ∈ lw_all := lw_g (lw_at lw_m4 67 rfl) rfl
theorem q878 : (Jvm.Cond.privateMethod ({ cls := "LastWordWood$Wood", name := "allDamp", desc := "(I)V" } : Jvm.MethodName)) ∈ lw_tbl := lw_at lw_m4 68 rfl
theorem q879 : (Jvm.Cond.instanceMethod ({ cls := "LastWordWood$Wood", name := "allDamp", desc := "(I)V" } : Jvm.MethodName)) ∈ lw_all := lw_g (lw_at lw_m4 69 rfl) rfl
theorem q880 : (Jvm.Cond.code ({ cls := "LastWordWood$Wood", name := "allDamp", desc := "(I)V" } : Jvm.MethodName) prog_12_method_12_code (3 : Nat) (Option.none : Option Jvm.ClassFile.FieldType)) ∈ lw_all := lw_g (lw_at lw_m4 70 rfl) rfl
theorem q961 : (Jvm.Cond.instanceMethod ({ cls := "LastWordWood$Wood", name := "takes", desc := "(LLastWordWood$Wood;)V" } : Jvm.MethodName)) ∈ lw_all := lw_g (lw_at lw_m4 151 rfl) rfl
theorem q962 : (Jvm.Cond.selects "LastWordWood$Wood" ({ cls := "LastWordWood$Wood", name := "takes", desc := "(LLastWordWood$Wood;)V" } : Jvm.MethodName) ({ cls := "LastWordWood$Wood", name := "takes", desc := "(LLastWordWood$Wood;)V" } : Jvm.MethodName)) ∈ lw_all := lw_g (lw_at lw_m4 152 rfl) rfl
theorem q963 : (Jvm.Cond.code ({ cls := "LastWordWood$Wood", name := "takes", desc := "(LLastWordWood$Wood;)V" } : Jvm.MethodName) prog_12_method_4_code (4 : Nat) (Option.none : Option Jvm.ClassFile.FieldType)) ∈ lw_all := lw_g (lw_at lw_m4 153 rfl) rfl
theorem q964 : (Jvm.Cond.methodLink "LastWordWood$Wood" (103 : Nat) ({ cls := "LastWordWood$Wood", name := "moves", desc := "(LLastWordWood$Wood;)V" } : Jvm.MethodName)) ∈ lw_all := lw_g (lw_at lw_m4 154 rfl) rfl
theorem q966 : (Jvm.Cond.instanceMethod ({ cls := "LastWordWood$Wood", name := "goesOn", desc := "()V" } : Jvm.MethodName)) ∈ lw_all := lw_g (lw_at lw_m4 156 rfl) rfl
theorem q967 : (Jvm.Cond.selects "LastWordWood$Wood" ({ cls := "LastWordWood$Wood", name := "goesOn", desc := "()V" } : Jvm.MethodName) ({ cls := "LastWordWood$Wood", name := "goesOn", desc := "()V" } : Jvm.MethodName)) ∈ lw_all := lw_g (lw_at lw_m4 157 rfl) rfl
theorem q968 : (Jvm.Cond.code ({ cls := "LastWordWood$Wood", name := "goesOn", desc := "()V" } : Jvm.MethodName) prog_12_method_16_code (1 : Nat) (Option.none : Option Jvm.ClassFile.FieldType)) ∈ lw_all := lw_g (lw_at lw_m4 158 rfl) rfl
theorem q1477 : (Jvm.Cond.castable "LastWordWood$Wood" "java/lang/Object") ∈ lw_tbl := lw_at lw_m6 187 rfl
theorem in_X1 : ∀ w ∈ wsX10, w ∈ lw_all := lw_in wsX10 [239, 241, 243, 245, 247, 249, 251, 253, 255, 257, 259, 261, 263, 265, 267, 269, 271, 273, 275, 277, 279, 281, 283, 285, 287] (by decide +kernel) (by decide +kernel)

/-! LastWordWood$Person -/
set_option maxRecDepth 100000
def RX2 : String := "LastWordWood$Person"
def TX2 : u_T := fun k => match k with
  | 0 => ("LastWordWood$Person", "basket", "[I", true)
  | 1 => ("LastWordWood$Person", "cell", "I", false)
  | 2 => ("LastWordWood$Person", "sick", "I", false)
  | _ => ("LastWordWood$Person", "sizes", "I", false)
def tyX2 : Nat → FieldType := fun k => match k with
  | 0 => .array .int
  | 1 => .int
  | 2 => .int
  | _ => .int
abbrev wsX20 : List Cond := u_ws RX2 TX2 4
theorem nmX2 : ∀ a, a < 4 → ∀ b, b < 4 → a ≠ b → (TX2 a).2.1 ≠ (TX2 b).2.1 := by decide +kernel
theorem tyX2_ok : ∀ k, k < 4 → parseFieldDescriptor (TX2 k).2.2.1 = some (tyX2 k) := by decide +kernel
abbrev cX2_init : ByteArray := prog_9_method_1_code
def yX2_init : MethodName := ⟨RX2, "<init>", "()V"⟩
def dkwX2_init_0 : List UInt8 := [42, 183, 0, 3, 42, 16, 12, 188, 10, 181, 0, 9, 177]
abbrev dktX2_init_0 : List UInt8 := dkwX2_init_0 ++ []
theorem dksX2_init_0 : cX2_init.data.toList.drop 0 = dktX2_init_0 := by decide +kernel
theorem dX2_init_0 : decode cX2_init 0 = .ok (.aload_n 0, 1) := dk_42 (dk_at dksX2_init_0 0 rfl rfl)
theorem dX2_init_1 : decode cX2_init 1 = .ok (.invokespecial 3, 3) := dk_183 0 3 (dk_at dksX2_init_0 1 rfl rfl)
theorem dX2_init_4 : decode cX2_init 4 = .ok (.aload_n 0, 1) := dk_42 (dk_at dksX2_init_0 4 rfl rfl)
theorem dX2_init_5 : decode cX2_init 5 = .ok (.bipush 12, 2) := dk_16 12 (dk_at dksX2_init_0 5 rfl rfl)
theorem dX2_init_7 : decode cX2_init 7 = .ok (.newarray .int, 2) := dk_188_10 (dk_at dksX2_init_0 7 rfl rfl)
theorem dX2_init_9 : decode cX2_init 9 = .ok (.putfield 9, 3) := dk_181 0 9 (dk_at dksX2_init_0 9 rfl rfl)
theorem dX2_init_12 : decode cX2_init 12 = .ok (.return_, 1) := dk_177 (dk_at dksX2_init_0 12 rfl rfl)
abbrev cX2_takes : ByteArray := prog_9_method_3_code
def yX2_takes : MethodName := ⟨RX2, "takes", "(LLastWordWood$Person;)V"⟩
def dkwX2_takes_2 : List UInt8 := [167, 255, 235, 177]
abbrev dktX2_takes_2 : List UInt8 := dkwX2_takes_2 ++ []
def dkwX2_takes_1 : List UInt8 := [3, 61, 28, 16, 12, 162, 0, 21, 42, 180, 0, 9, 28, 43, 180, 0, 9, 28, 46, 79, 132, 2, 1]
abbrev dktX2_takes_1 : List UInt8 := dkwX2_takes_1 ++ dktX2_takes_2
def dkwX2_takes_0 : List UInt8 := [42, 43, 180, 0, 15, 181, 0, 15, 42, 43, 180, 0, 19, 181, 0, 19, 42, 43, 180, 0, 22, 181, 0, 22]
abbrev dktX2_takes_0 : List UInt8 := dkwX2_takes_0 ++ dktX2_takes_1
theorem dksX2_takes_0 : cX2_takes.data.toList.drop 0 = dktX2_takes_0 := by decide +kernel
theorem dksX2_takes_1 : cX2_takes.data.toList.drop 24 = dktX2_takes_1 := dk_seg dksX2_takes_0 24 rfl rfl
theorem dksX2_takes_2 : cX2_takes.data.toList.drop 47 = dktX2_takes_2 := dk_seg dksX2_takes_1 23 rfl rfl
theorem dX2_takes_0 : decode cX2_takes 0 = .ok (.aload_n 0, 1) := dk_42 (dk_at dksX2_takes_0 0 rfl rfl)
theorem dX2_takes_1 : decode cX2_takes 1 = .ok (.aload_n 1, 1) := dk_43 (dk_at dksX2_takes_0 1 rfl rfl)
theorem dX2_takes_2 : decode cX2_takes 2 = .ok (.getfield 15, 3) := dk_180 0 15 (dk_at dksX2_takes_0 2 rfl rfl)
theorem dX2_takes_5 : decode cX2_takes 5 = .ok (.putfield 15, 3) := dk_181 0 15 (dk_at dksX2_takes_0 5 rfl rfl)
theorem dX2_takes_8 : decode cX2_takes 8 = .ok (.aload_n 0, 1) := dk_42 (dk_at dksX2_takes_0 8 rfl rfl)
theorem dX2_takes_9 : decode cX2_takes 9 = .ok (.aload_n 1, 1) := dk_43 (dk_at dksX2_takes_0 9 rfl rfl)
theorem dX2_takes_10 : decode cX2_takes 10 = .ok (.getfield 19, 3) := dk_180 0 19 (dk_at dksX2_takes_0 10 rfl rfl)
theorem dX2_takes_13 : decode cX2_takes 13 = .ok (.putfield 19, 3) := dk_181 0 19 (dk_at dksX2_takes_0 13 rfl rfl)
theorem dX2_takes_16 : decode cX2_takes 16 = .ok (.aload_n 0, 1) := dk_42 (dk_at dksX2_takes_0 16 rfl rfl)
theorem dX2_takes_17 : decode cX2_takes 17 = .ok (.aload_n 1, 1) := dk_43 (dk_at dksX2_takes_0 17 rfl rfl)
theorem dX2_takes_18 : decode cX2_takes 18 = .ok (.getfield 22, 3) := dk_180 0 22 (dk_at dksX2_takes_0 18 rfl rfl)
theorem dX2_takes_21 : decode cX2_takes 21 = .ok (.putfield 22, 3) := dk_181 0 22 (dk_at dksX2_takes_0 21 rfl rfl)
theorem dX2_takes_24 : decode cX2_takes 24 = .ok (.iconst 0, 1) := dk_3 (dk_at dksX2_takes_1 0 rfl rfl)
theorem dX2_takes_25 : decode cX2_takes 25 = .ok (.istore_n 2, 1) := dk_61 (dk_at dksX2_takes_1 1 rfl rfl)
theorem dX2_takes_26 : decode cX2_takes 26 = .ok (.iload_n 2, 1) := dk_28 (dk_at dksX2_takes_1 2 rfl rfl)
theorem dX2_takes_27 : decode cX2_takes 27 = .ok (.bipush 12, 2) := dk_16 12 (dk_at dksX2_takes_1 3 rfl rfl)
theorem dX2_takes_29 : decode cX2_takes 29 = .ok (.if_icmp .ge 21, 3) := dk_162 0 21 (dk_at dksX2_takes_1 5 rfl rfl)
theorem dX2_takes_32 : decode cX2_takes 32 = .ok (.aload_n 0, 1) := dk_42 (dk_at dksX2_takes_1 8 rfl rfl)
theorem dX2_takes_33 : decode cX2_takes 33 = .ok (.getfield 9, 3) := dk_180 0 9 (dk_at dksX2_takes_1 9 rfl rfl)
theorem dX2_takes_36 : decode cX2_takes 36 = .ok (.iload_n 2, 1) := dk_28 (dk_at dksX2_takes_1 12 rfl rfl)
theorem dX2_takes_37 : decode cX2_takes 37 = .ok (.aload_n 1, 1) := dk_43 (dk_at dksX2_takes_1 13 rfl rfl)
theorem dX2_takes_38 : decode cX2_takes 38 = .ok (.getfield 9, 3) := dk_180 0 9 (dk_at dksX2_takes_1 14 rfl rfl)
theorem dX2_takes_41 : decode cX2_takes 41 = .ok (.iload_n 2, 1) := dk_28 (dk_at dksX2_takes_1 17 rfl rfl)
theorem dX2_takes_42 : decode cX2_takes 42 = .ok (.iaload, 1) := dk_46 (dk_at dksX2_takes_1 18 rfl rfl)
theorem dX2_takes_43 : decode cX2_takes 43 = .ok (.iastore, 1) := dk_79 (dk_at dksX2_takes_1 19 rfl rfl)
theorem dX2_takes_44 : decode cX2_takes 44 = .ok (.iinc 2 1, 3) := dk_132 2 1 (dk_at dksX2_takes_1 20 rfl rfl)
theorem dX2_takes_47 : decode cX2_takes 47 = .ok (.goto (-21), 3) := dk_167 255 235 (dk_at dksX2_takes_2 0 rfl rfl)
theorem dX2_takes_50 : decode cX2_takes 50 = .ok (.return_, 1) := dk_177 (dk_at dksX2_takes_2 3 rfl rfl)
abbrev cX2_begins : ByteArray := prog_9_method_2_code
def yX2_begins : MethodName := ⟨RX2, "begins", "(I)V"⟩
def dkwX2_begins_1 : List UInt8 := [180, 0, 9, 28, 3, 79, 132, 2, 1, 167, 255, 240, 177]
abbrev dktX2_begins_1 : List UInt8 := dkwX2_begins_1 ++ []
def dkwX2_begins_0 : List UInt8 := [42, 27, 181, 0, 15, 42, 3, 181, 0, 19, 42, 3, 181, 0, 22, 3, 61, 28, 16, 12, 162, 0, 16, 42]
abbrev dktX2_begins_0 : List UInt8 := dkwX2_begins_0 ++ dktX2_begins_1
theorem dksX2_begins_0 : cX2_begins.data.toList.drop 0 = dktX2_begins_0 := by decide +kernel
theorem dksX2_begins_1 : cX2_begins.data.toList.drop 24 = dktX2_begins_1 := dk_seg dksX2_begins_0 24 rfl rfl
theorem dX2_begins_0 : decode cX2_begins 0 = .ok (.aload_n 0, 1) := dk_42 (dk_at dksX2_begins_0 0 rfl rfl)
theorem dX2_begins_1 : decode cX2_begins 1 = .ok (.iload_n 1, 1) := dk_27 (dk_at dksX2_begins_0 1 rfl rfl)
theorem dX2_begins_2 : decode cX2_begins 2 = .ok (.putfield 15, 3) := dk_181 0 15 (dk_at dksX2_begins_0 2 rfl rfl)
theorem dX2_begins_5 : decode cX2_begins 5 = .ok (.aload_n 0, 1) := dk_42 (dk_at dksX2_begins_0 5 rfl rfl)
theorem dX2_begins_6 : decode cX2_begins 6 = .ok (.iconst 0, 1) := dk_3 (dk_at dksX2_begins_0 6 rfl rfl)
theorem dX2_begins_7 : decode cX2_begins 7 = .ok (.putfield 19, 3) := dk_181 0 19 (dk_at dksX2_begins_0 7 rfl rfl)
theorem dX2_begins_10 : decode cX2_begins 10 = .ok (.aload_n 0, 1) := dk_42 (dk_at dksX2_begins_0 10 rfl rfl)
theorem dX2_begins_11 : decode cX2_begins 11 = .ok (.iconst 0, 1) := dk_3 (dk_at dksX2_begins_0 11 rfl rfl)
theorem dX2_begins_12 : decode cX2_begins 12 = .ok (.putfield 22, 3) := dk_181 0 22 (dk_at dksX2_begins_0 12 rfl rfl)
theorem dX2_begins_15 : decode cX2_begins 15 = .ok (.iconst 0, 1) := dk_3 (dk_at dksX2_begins_0 15 rfl rfl)
theorem dX2_begins_16 : decode cX2_begins 16 = .ok (.istore_n 2, 1) := dk_61 (dk_at dksX2_begins_0 16 rfl rfl)
theorem dX2_begins_17 : decode cX2_begins 17 = .ok (.iload_n 2, 1) := dk_28 (dk_at dksX2_begins_0 17 rfl rfl)
theorem dX2_begins_18 : decode cX2_begins 18 = .ok (.bipush 12, 2) := dk_16 12 (dk_at dksX2_begins_0 18 rfl rfl)
theorem dX2_begins_20 : decode cX2_begins 20 = .ok (.if_icmp .ge 16, 3) := dk_162 0 16 (dk_at dksX2_begins_0 20 rfl rfl)
theorem dX2_begins_23 : decode cX2_begins 23 = .ok (.aload_n 0, 1) := dk_42 (dk_at dksX2_begins_0 23 rfl rfl)
theorem dX2_begins_24 : decode cX2_begins 24 = .ok (.getfield 9, 3) := dk_180 0 9 (dk_at dksX2_begins_1 0 rfl rfl)
theorem dX2_begins_27 : decode cX2_begins 27 = .ok (.iload_n 2, 1) := dk_28 (dk_at dksX2_begins_1 3 rfl rfl)
theorem dX2_begins_28 : decode cX2_begins 28 = .ok (.iconst 0, 1) := dk_3 (dk_at dksX2_begins_1 4 rfl rfl)
theorem dX2_begins_29 : decode cX2_begins 29 = .ok (.iastore, 1) := dk_79 (dk_at dksX2_begins_1 5 rfl rfl)
theorem dX2_begins_30 : decode cX2_begins 30 = .ok (.iinc 2 1, 3) := dk_132 2 1 (dk_at dksX2_begins_1 6 rfl rfl)
theorem dX2_begins_33 : decode cX2_begins 33 = .ok (.goto (-16), 3) := dk_167 255 240 (dk_at dksX2_begins_1 9 rfl rfl)
theorem dX2_begins_36 : decode cX2_begins 36 = .ok (.return_, 1) := dk_177 (dk_at dksX2_begins_1 12 rfl rfl)
theorem q96 : (Jvm.Cond.initialized "LastWordWood$Person") ∈ lw_all := lw_g (lw_at lw_m1 6 rfl) rfl
theorem q164 : (Jvm.Cond.instantiable "LastWordWood$Person" (4 : Nat)) ∈ lw_all := lw_g (lw_at lw_m1 74 rfl) rfl
theorem q166 : (Jvm.Cond.instanceMethod ({ cls := "LastWordWood$Person", name := "<init>", desc := "()V" } : Jvm.MethodName)) ∈ lw_all := lw_g (lw_at lw_m1 76 rfl) rfl
theorem q167 : (Jvm.Cond.code ({ cls := "LastWordWood$Person", name := "<init>", desc := "()V" } : Jvm.MethodName) prog_9_method_1_code (1 : Nat) (Option.none : Option Jvm.ClassFile.FieldType)) ∈ lw_all := lw_g (lw_at lw_m1 77 rfl) rfl
theorem q168 : (Jvm.Cond.methodLink "LastWordWood$Person" (3 : Nat) ({ cls := "java/lang/Object", name := "<init>", desc := "()V" } : Jvm.MethodName)) ∈ lw_all := lw_g (lw_at lw_m1 78 rfl) rfl
theorem q169 : (Jvm.Cond.fieldLink "LastWordWood$Person" (9 : Nat) "LastWordWood$Person" "basket" "[I") ∈ lw_all := lw_g (lw_at lw_m1 79 rfl) rfl
theorem q171 : (Jvm.Cond.fieldLink "LastWordWood$Person" (15 : Nat) "LastWordWood$Person" "cell" "I") ∈ lw_all := lw_g (lw_at lw_m1 81 rfl) rfl
theorem q173 : (Jvm.Cond.fieldLink "LastWordWood$Person" (19 : Nat) "LastWordWood$Person" "sick" "I") ∈ lw_all := lw_g (lw_at lw_m1 83 rfl) rfl
theorem q176 : (Jvm.Cond.fieldLink "LastWordWood$Person" (22 : Nat) "LastWordWood$Person" "sizes" "I") ∈ lw_all := lw_g (lw_at lw_m1 86 rfl) rfl
theorem q178 : (Jvm.Cond.laysFinal "LastWordWood$Person" "LastWordWood$Person" "basket" "[I") ∈ lw_all := lw_g (lw_at lw_m1 88 rfl) rfl
theorem q179 : (Jvm.Cond.soleField "LastWordWood$Person" "basket") ∈ lw_all := lw_g (lw_at lw_m1 89 rfl) rfl
theorem q180 : (Jvm.Cond.lays "LastWordWood$Person" "LastWordWood$Person" "cell" "I") ∈ lw_all := lw_g (lw_at lw_m1 90 rfl) rfl
theorem q181 : (Jvm.Cond.soleField "LastWordWood$Person" "cell") ∈ lw_all := lw_g (lw_at lw_m1 91 rfl) rfl
theorem q182 : (Jvm.Cond.lays "LastWordWood$Person" "LastWordWood$Person" "sick" "I") ∈ lw_all := lw_g (lw_at lw_m1 92 rfl) rfl
theorem q183 : (Jvm.Cond.soleField "LastWordWood$Person" "sick") ∈ lw_all := lw_g (lw_at lw_m1 93 rfl) rfl
theorem q184 : (Jvm.Cond.lays "LastWordWood$Person" "LastWordWood$Person" "sizes" "I") ∈ lw_all := lw_g (lw_at lw_m1 94 rfl) rfl
theorem q185 : (Jvm.Cond.soleField "LastWordWood$Person" "sizes") ∈ lw_all := lw_g (lw_at lw_m1 95 rfl) rfl
theorem q186 : (Jvm.Cond.superclass "LastWordWood$Person" "java/lang/Object") ∈ lw_all := lw_g (lw_at lw_m1 96 rfl) rfl
theorem q684 : (Jvm.Cond.selects "LastWordWood$Person" ({ cls := "java/lang/Object", name := "getClass", desc := "()Ljava/lang/Class;" } : Jvm.MethodName) ({ cls := "java/lang/Object", name := "getClass", desc := "()Ljava/lang/Class;" } : Jvm.MethodName)) ∈ lw_all := lw_g (lw_at lw_m3 114 rfl) rfl
theorem q718 : (Jvm.Cond.instanceMethod ({ cls := "LastWordWood$Person", name := "takes", desc := "(LLastWordWood$Person;)V" } : Jvm.MethodName)) ∈ lw_all := lw_g (lw_at lw_m3 148 rfl) rfl
theorem q719 : (Jvm.Cond.selects "LastWordWood$Person" ({ cls := "LastWordWood$Person", name := "takes", desc := "(LLastWordWood$Person;)V" } : Jvm.MethodName) ({ cls := "LastWordWood$Person", name := "takes", desc := "(LLastWordWood$Person;)V" } : Jvm.MethodName)) ∈ lw_all := lw_g (lw_at lw_m3 149 rfl) rfl
theorem q720 : (Jvm.Cond.code ({ cls := "LastWordWood$Person", name := "takes", desc := "(LLastWordWood$Person;)V" } : Jvm.MethodName) prog_9_method_3_code (3 : Nat) (Option.none : Option Jvm.ClassFile.FieldType)) ∈ lw_all := lw_g (lw_at lw_m3 150 rfl) rfl
theorem q752 : (Jvm.Cond.instanceMethod ({ cls := "LastWordWood$Person", name := "begins", desc := "(I)V" } : Jvm.MethodName)) ∈ lw_all := lw_g (lw_at lw_m3 182 rfl) rfl
theorem q753 : (Jvm.Cond.selects "LastWordWood$Person" ({ cls := "LastWordWood$Person", name := "begins", desc := "(I)V" } : Jvm.MethodName) ({ cls := "LastWordWood$Person", name := "begins", desc := "(I)V" } : Jvm.MethodName)) ∈ lw_all := lw_g (lw_at lw_m3 183 rfl) rfl
theorem q754 : (Jvm.Cond.code ({ cls := "LastWordWood$Person", name := "begins", desc := "(I)V" } : Jvm.MethodName) prog_9_method_2_code (3 : Nat) (Option.none : Option Jvm.ClassFile.FieldType)) ∈ lw_all := lw_g (lw_at lw_m3 184 rfl) rfl
theorem q1476 : (Jvm.Cond.castable "LastWordWood$Person" "java/lang/Object") ∈ lw_tbl := lw_at lw_m6 186 rfl
theorem in_X2 : ∀ w ∈ wsX20, w ∈ lw_all := lw_in wsX20 [178, 180, 182, 184] (by decide +kernel) (by decide +kernel)

/-! LastWordWood$Fault -/
set_option maxRecDepth 100000
def RX5 : String := "LastWordWood$Fault"
def TX5 : u_T := fun k => match k with
  | 0 => ("java/lang/Throwable", "cause", "Ljava/lang/Throwable;", false)
  | 1 => ("java/lang/Throwable", "stackTrace", "[Ljava/lang/StackTraceElement;", false)
  | 2 => ("java/lang/Throwable", "suppressedExceptions", "Ljava/util/List;", false)
  | 3 => ("java/lang/Throwable", "detailMessage", "Ljava/lang/String;", false)
  | 4 => ("java/lang/Throwable", "backtrace", "Ljava/lang/Object;", false)
  | 5 => ("java/lang/Throwable", "depth", "I", false)
  | 6 => ("LastWordWood$Fault", "kind", "I", true)
  | _ => ("LastWordWood$Fault", "place", "I", true)
def tyX5 : Nat → FieldType := fun k => match k with
  | 0 => .object "java/lang/Throwable"
  | 1 => .array (.object "java/lang/StackTraceElement")
  | 2 => .object "java/util/List"
  | 3 => .object "java/lang/String"
  | 4 => .object "java/lang/Object"
  | 5 => .int
  | 6 => .int
  | _ => .int
abbrev wsX50 : List Cond := u_ws RX5 TX5 8
theorem nmX5 : ∀ a, a < 8 → ∀ b, b < 8 → a ≠ b → (TX5 a).2.1 ≠ (TX5 b).2.1 := by decide +kernel
theorem tyX5_ok : ∀ k, k < 8 → parseFieldDescriptor (TX5 k).2.2.1 = some (tyX5 k) := by decide +kernel
abbrev cX5_init : ByteArray := prog_3_method_1_code
def yX5_init : MethodName := ⟨RX5, "<init>", "(II)V"⟩
def dkwX5_init_0 : List UInt8 := [42, 183, 0, 1, 42, 27, 181, 0, 7, 42, 28, 181, 0, 13, 177]
abbrev dktX5_init_0 : List UInt8 := dkwX5_init_0 ++ []
theorem dksX5_init_0 : cX5_init.data.toList.drop 0 = dktX5_init_0 := by decide +kernel
theorem dX5_init_0 : decode cX5_init 0 = .ok (.aload_n 0, 1) := dk_42 (dk_at dksX5_init_0 0 rfl rfl)
theorem dX5_init_1 : decode cX5_init 1 = .ok (.invokespecial 1, 3) := dk_183 0 1 (dk_at dksX5_init_0 1 rfl rfl)
theorem dX5_init_4 : decode cX5_init 4 = .ok (.aload_n 0, 1) := dk_42 (dk_at dksX5_init_0 4 rfl rfl)
theorem dX5_init_5 : decode cX5_init 5 = .ok (.iload_n 1, 1) := dk_27 (dk_at dksX5_init_0 5 rfl rfl)
theorem dX5_init_6 : decode cX5_init 6 = .ok (.putfield 7, 3) := dk_181 0 7 (dk_at dksX5_init_0 6 rfl rfl)
theorem dX5_init_9 : decode cX5_init 9 = .ok (.aload_n 0, 1) := dk_42 (dk_at dksX5_init_0 9 rfl rfl)
theorem dX5_init_10 : decode cX5_init 10 = .ok (.iload_n 2, 1) := dk_28 (dk_at dksX5_init_0 10 rfl rfl)
theorem dX5_init_11 : decode cX5_init 11 = .ok (.putfield 13, 3) := dk_181 0 13 (dk_at dksX5_init_0 11 rfl rfl)
theorem dX5_init_14 : decode cX5_init 14 = .ok (.return_, 1) := dk_177 (dk_at dksX5_init_0 14 rfl rfl)
theorem q106 : (Jvm.Cond.initialized "LastWordWood$Fault") ∈ lw_all := lw_g (lw_at lw_m1 16 rfl) rfl
theorem q478 : (Jvm.Cond.instantiable "LastWordWood$Fault" (8 : Nat)) ∈ lw_all := lw_g (lw_at lw_m2 148 rfl) rfl
theorem q479 : (Jvm.Cond.castable "LastWordWood$Fault" "LastWordWood$Fault") ∈ lw_tbl := lw_at lw_m2 149 rfl
theorem q484 : (Jvm.Cond.selects "LastWordWood$Fault" ({ cls := "java/lang/Throwable", name := "fillInStackTrace", desc := "(I)Ljava/lang/Throwable;" } : Jvm.MethodName) ({ cls := "java/lang/Throwable", name := "fillInStackTrace", desc := "(I)Ljava/lang/Throwable;" } : Jvm.MethodName)) ∈ lw_all := lw_g (lw_at lw_m2 154 rfl) rfl
theorem q485 : (Jvm.Cond.selects "LastWordWood$Fault" ({ cls := "java/lang/Throwable", name := "fillInStackTrace", desc := "()Ljava/lang/Throwable;" } : Jvm.MethodName) ({ cls := "java/lang/Throwable", name := "fillInStackTrace", desc := "()Ljava/lang/Throwable;" } : Jvm.MethodName)) ∈ lw_all := lw_g (lw_at lw_m2 155 rfl) rfl
theorem q486 : (Jvm.Cond.lays "LastWordWood$Fault" "java/lang/Throwable" "cause" "Ljava/lang/Throwable;") ∈ lw_all := lw_g (lw_at lw_m2 156 rfl) rfl
theorem q488 : (Jvm.Cond.lays "LastWordWood$Fault" "java/lang/Throwable" "stackTrace" "[Ljava/lang/StackTraceElement;") ∈ lw_all := lw_g (lw_at lw_m2 158 rfl) rfl
theorem q490 : (Jvm.Cond.lays "LastWordWood$Fault" "java/lang/Throwable" "suppressedExceptions" "Ljava/util/List;") ∈ lw_all := lw_g (lw_at lw_m2 160 rfl) rfl
theorem q492 : (Jvm.Cond.lays "LastWordWood$Fault" "java/lang/Throwable" "detailMessage" "Ljava/lang/String;") ∈ lw_all := lw_g (lw_at lw_m2 162 rfl) rfl
theorem q494 : (Jvm.Cond.lays "LastWordWood$Fault" "java/lang/Throwable" "backtrace" "Ljava/lang/Object;") ∈ lw_all := lw_g (lw_at lw_m2 164 rfl) rfl
theorem q515 : (Jvm.Cond.instanceMethod ({ cls := "LastWordWood$Fault", name := "<init>", desc := "(II)V" } : Jvm.MethodName)) ∈ lw_all := lw_g (lw_at lw_m2 185 rfl) rfl
theorem q516 : (Jvm.Cond.code ({ cls := "LastWordWood$Fault", name := "<init>", desc := "(II)V" } : Jvm.MethodName) prog_3_method_1_code (3 : Nat) (Option.none : Option Jvm.ClassFile.FieldType)) ∈ lw_all := lw_g (lw_at lw_m2 186 rfl) rfl
theorem q517 : (Jvm.Cond.methodLink "LastWordWood$Fault" (1 : Nat) ({ cls := "java/lang/Exception", name := "<init>", desc := "()V" } : Jvm.MethodName)) ∈ lw_all := lw_g (lw_at lw_m2 187 rfl) rfl
theorem q521 : (Jvm.Cond.fieldLink "LastWordWood$Fault" (7 : Nat) "LastWordWood$Fault" "kind" "I") ∈ lw_all := lw_g (lw_at lw_m2 191 rfl) rfl
theorem q523 : (Jvm.Cond.fieldLink "LastWordWood$Fault" (13 : Nat) "LastWordWood$Fault" "place" "I") ∈ lw_all := lw_g (lw_at lw_m2 193 rfl) rfl
theorem q529 : (Jvm.Cond.laysFinal "LastWordWood$Fault" "LastWordWood$Fault" "kind" "I") ∈ lw_all := lw_g (lw_at lw_m2 199 rfl) rfl
theorem q530 : (Jvm.Cond.soleField "LastWordWood$Fault" "kind") ∈ lw_all := lw_g (lw_at lw_m2 200 rfl) rfl
theorem q531 : (Jvm.Cond.laysFinal "LastWordWood$Fault" "LastWordWood$Fault" "place" "I") ∈ lw_all := lw_g (lw_at lw_m2 201 rfl) rfl
theorem q532 : (Jvm.Cond.soleField "LastWordWood$Fault" "place") ∈ lw_all := lw_g (lw_at lw_m2 202 rfl) rfl
theorem q537 : (Jvm.Cond.lays "LastWordWood$Fault" "java/lang/Throwable" "depth" "I") ∈ lw_all := lw_g (lw_at lw_m2 207 rfl) rfl
theorem q540 : (Jvm.Cond.superclass "LastWordWood$Fault" "java/lang/Exception") ∈ lw_all := lw_g (lw_at lw_m2 210 rfl) rfl
theorem q678 : (Jvm.Cond.selects "LastWordWood$Fault" ({ cls := "java/lang/Object", name := "getClass", desc := "()Ljava/lang/Class;" } : Jvm.MethodName) ({ cls := "java/lang/Object", name := "getClass", desc := "()Ljava/lang/Class;" } : Jvm.MethodName)) ∈ lw_all := lw_g (lw_at lw_m3 108 rfl) rfl
theorem q1482 : (Jvm.Cond.castable "LastWordWood$Fault" "java/lang/Object") ∈ lw_tbl := lw_at lw_m6 192 rfl
theorem in_X5 : ∀ w ∈ wsX50, w ∈ lw_all := lw_in wsX50 [486, 488, 490, 492, 494, 537, 529, 531] (by decide +kernel) (by decide +kernel)

/-! LastWordWood$Term -/
set_option maxRecDepth 100000
def RX6 : String := "LastWordWood$Term"
abbrev cX6_init : ByteArray := prog_11_method_1_code
def yX6_init : MethodName := ⟨RX6, "<init>", "()V"⟩
theorem dX6_init_0 : decode cX6_init 0 = .ok (.aload_n 0, 1) := by decide +kernel
theorem dX6_init_1 : decode cX6_init 1 = .ok (.invokespecial 1, 3) := by decide +kernel
theorem dX6_init_4 : decode cX6_init 4 = .ok (.return_, 1) := by decide +kernel
theorem q107 : (Jvm.Cond.initialized "LastWordWood$Term") ∈ lw_all := lw_g (lw_at lw_m1 17 rfl) rfl
theorem q567 : (Jvm.Cond.instanceMethod ({ cls := "LastWordWood$Term", name := "<init>", desc := "()V" } : Jvm.MethodName)) ∈ lw_all := lw_g (lw_at lw_m2 237 rfl) rfl
theorem q568 : (Jvm.Cond.code ({ cls := "LastWordWood$Term", name := "<init>", desc := "()V" } : Jvm.MethodName) prog_11_method_1_code (1 : Nat) (Option.none : Option Jvm.ClassFile.FieldType)) ∈ lw_all := lw_g (lw_at lw_m2 238 rfl) rfl
theorem q569 : (Jvm.Cond.methodLink "LastWordWood$Term" (1 : Nat) ({ cls := "java/lang/Object", name := "<init>", desc := "()V" } : Jvm.MethodName)) ∈ lw_all := lw_g (lw_at lw_m2 239 rfl) rfl
theorem q825 : (Jvm.Cond.declares ({ cls := "LastWordWood$Term", name := "of", desc := "(LLastWordWood$Asker;)I" } : Jvm.MethodName)) ∈ lw_tbl := lw_at lw_m4 15 rfl
theorem q826 : (Jvm.Cond.sameMethod "LastWordWood$Term" "LastWordWood$Term" "of" "(LLastWordWood$Asker;)I") ∈ lw_all := lw_g (lw_at lw_m4 16 rfl) rfl

/-! LastWordWood$Fixed -/
set_option maxRecDepth 100000
def RX7 : String := "LastWordWood$Fixed"
def TX7 : u_T := fun k => match k with
  | _ => ("LastWordWood$Fixed", "value", "I", true)
def tyX7 : Nat → FieldType := fun k => match k with
  | _ => .int
abbrev wsX70 : List Cond := u_ws RX7 TX7 1
theorem nmX7 : ∀ a, a < 1 → ∀ b, b < 1 → a ≠ b → (TX7 a).2.1 ≠ (TX7 b).2.1 := by decide +kernel
theorem tyX7_ok : ∀ k, k < 1 → parseFieldDescriptor (TX7 k).2.2.1 = some (tyX7 k) := by decide +kernel
abbrev cX7_init : ByteArray := prog_4_method_1_code
def yX7_init : MethodName := ⟨RX7, "<init>", "(I)V"⟩
def dkwX7_init_0 : List UInt8 := [42, 183, 0, 1, 42, 27, 181, 0, 7, 177]
abbrev dktX7_init_0 : List UInt8 := dkwX7_init_0 ++ []
theorem dksX7_init_0 : cX7_init.data.toList.drop 0 = dktX7_init_0 := by decide +kernel
theorem dX7_init_0 : decode cX7_init 0 = .ok (.aload_n 0, 1) := dk_42 (dk_at dksX7_init_0 0 rfl rfl)
theorem dX7_init_1 : decode cX7_init 1 = .ok (.invokespecial 1, 3) := dk_183 0 1 (dk_at dksX7_init_0 1 rfl rfl)
theorem dX7_init_4 : decode cX7_init 4 = .ok (.aload_n 0, 1) := dk_42 (dk_at dksX7_init_0 4 rfl rfl)
theorem dX7_init_5 : decode cX7_init 5 = .ok (.iload_n 1, 1) := dk_27 (dk_at dksX7_init_0 5 rfl rfl)
theorem dX7_init_6 : decode cX7_init 6 = .ok (.putfield 7, 3) := dk_181 0 7 (dk_at dksX7_init_0 6 rfl rfl)
theorem dX7_init_9 : decode cX7_init 9 = .ok (.return_, 1) := dk_177 (dk_at dksX7_init_0 9 rfl rfl)
abbrev cX7_of : ByteArray := prog_4_method_2_code
def yX7_of : MethodName := ⟨RX7, "of", "(LLastWordWood$Asker;)I"⟩
theorem dX7_of_0 : decode cX7_of 0 = .ok (.aload_n 0, 1) := by decide +kernel
theorem dX7_of_1 : decode cX7_of 1 = .ok (.getfield 7, 3) := by decide +kernel
theorem dX7_of_4 : decode cX7_of 4 = .ok (.ireturn, 1) := by decide +kernel
theorem q108 : (Jvm.Cond.initialized "LastWordWood$Fixed") ∈ lw_all := lw_g (lw_at lw_m1 18 rfl) rfl
theorem q558 : (Jvm.Cond.instantiable "LastWordWood$Fixed" (1 : Nat)) ∈ lw_all := lw_g (lw_at lw_m2 228 rfl) rfl
theorem q564 : (Jvm.Cond.instanceMethod ({ cls := "LastWordWood$Fixed", name := "<init>", desc := "(I)V" } : Jvm.MethodName)) ∈ lw_all := lw_g (lw_at lw_m2 234 rfl) rfl
theorem q565 : (Jvm.Cond.code ({ cls := "LastWordWood$Fixed", name := "<init>", desc := "(I)V" } : Jvm.MethodName) prog_4_method_1_code (2 : Nat) (Option.none : Option Jvm.ClassFile.FieldType)) ∈ lw_all := lw_g (lw_at lw_m2 235 rfl) rfl
theorem q566 : (Jvm.Cond.methodLinkNest "LastWordWood$Fixed" (1 : Nat) ({ cls := "LastWordWood$Term", name := "<init>", desc := "()V" } : Jvm.MethodName) "LastWordWood") ∈ lw_tbl := lw_at lw_m2 236 rfl
theorem q570 : (Jvm.Cond.fieldLink "LastWordWood$Fixed" (7 : Nat) "LastWordWood$Fixed" "value" "I") ∈ lw_all := lw_g (lw_at lw_m3 0 rfl) rfl
theorem q571 : (Jvm.Cond.laysFinal "LastWordWood$Fixed" "LastWordWood$Fixed" "value" "I") ∈ lw_all := lw_g (lw_at lw_m3 1 rfl) rfl
theorem q572 : (Jvm.Cond.soleField "LastWordWood$Fixed" "value") ∈ lw_all := lw_g (lw_at lw_m3 2 rfl) rfl
theorem q573 : (Jvm.Cond.superclass "LastWordWood$Fixed" "LastWordWood$Term") ∈ lw_all := lw_g (lw_at lw_m3 3 rfl) rfl
theorem q679 : (Jvm.Cond.selects "LastWordWood$Fixed" ({ cls := "java/lang/Object", name := "getClass", desc := "()Ljava/lang/Class;" } : Jvm.MethodName) ({ cls := "java/lang/Object", name := "getClass", desc := "()Ljava/lang/Class;" } : Jvm.MethodName)) ∈ lw_all := lw_g (lw_at lw_m3 109 rfl) rfl
theorem q827 : (Jvm.Cond.selects "LastWordWood$Fixed" ({ cls := "LastWordWood$Term", name := "of", desc := "(LLastWordWood$Asker;)I" } : Jvm.MethodName) ({ cls := "LastWordWood$Fixed", name := "of", desc := "(LLastWordWood$Asker;)I" } : Jvm.MethodName)) ∈ lw_all := lw_g (lw_at lw_m4 17 rfl) rfl
theorem q828 : (Jvm.Cond.instanceMethod ({ cls := "LastWordWood$Fixed", name := "of", desc := "(LLastWordWood$Asker;)I" } : Jvm.MethodName)) ∈ lw_all := lw_g (lw_at lw_m4 18 rfl) rfl
theorem q829 : (Jvm.Cond.code ({ cls := "LastWordWood$Fixed", name := "of", desc := "(LLastWordWood$Asker;)I" } : Jvm.MethodName) prog_4_method_2_code (2 : Nat) (Option.some Jvm.ClassFile.FieldType.int)) ∈ lw_all := lw_g (lw_at lw_m4 19 rfl) rfl
theorem q1483 : (Jvm.Cond.castable "LastWordWood$Fixed" "java/lang/Object") ∈ lw_tbl := lw_at lw_m6 193 rfl
theorem in_X7 : ∀ w ∈ wsX70, w ∈ lw_all := lw_in wsX70 [571] (by decide +kernel) (by decide +kernel)

/-! LastWordWood$Known -/
set_option maxRecDepth 100000
def RX8 : String := "LastWordWood$Known"
def TX8 : u_T := fun k => match k with
  | _ => ("LastWordWood$Known", "what", "I", true)
def tyX8 : Nat → FieldType := fun k => match k with
  | _ => .int
abbrev wsX80 : List Cond := u_ws RX8 TX8 1
theorem nmX8 : ∀ a, a < 1 → ∀ b, b < 1 → a ≠ b → (TX8 a).2.1 ≠ (TX8 b).2.1 := by decide +kernel
theorem tyX8_ok : ∀ k, k < 1 → parseFieldDescriptor (TX8 k).2.2.1 = some (tyX8 k) := by decide +kernel
abbrev cX8_init : ByteArray := prog_6_method_1_code
def yX8_init : MethodName := ⟨RX8, "<init>", "(I)V"⟩
def dkwX8_init_0 : List UInt8 := [42, 183, 0, 1, 42, 27, 181, 0, 7, 177]
abbrev dktX8_init_0 : List UInt8 := dkwX8_init_0 ++ []
theorem dksX8_init_0 : cX8_init.data.toList.drop 0 = dktX8_init_0 := by decide +kernel
theorem dX8_init_0 : decode cX8_init 0 = .ok (.aload_n 0, 1) := dk_42 (dk_at dksX8_init_0 0 rfl rfl)
theorem dX8_init_1 : decode cX8_init 1 = .ok (.invokespecial 1, 3) := dk_183 0 1 (dk_at dksX8_init_0 1 rfl rfl)
theorem dX8_init_4 : decode cX8_init 4 = .ok (.aload_n 0, 1) := dk_42 (dk_at dksX8_init_0 4 rfl rfl)
theorem dX8_init_5 : decode cX8_init 5 = .ok (.iload_n 1, 1) := dk_27 (dk_at dksX8_init_0 5 rfl rfl)
theorem dX8_init_6 : decode cX8_init 6 = .ok (.putfield 7, 3) := dk_181 0 7 (dk_at dksX8_init_0 6 rfl rfl)
theorem dX8_init_9 : decode cX8_init 9 = .ok (.return_, 1) := dk_177 (dk_at dksX8_init_0 9 rfl rfl)
abbrev cX8_of : ByteArray := prog_6_method_2_code
def yX8_of : MethodName := ⟨RX8, "of", "(LLastWordWood$Asker;)I"⟩
def dkwX8_of_0 : List UInt8 := [43, 42, 180, 0, 7, 185, 0, 13, 2, 0, 172]
abbrev dktX8_of_0 : List UInt8 := dkwX8_of_0 ++ []
theorem dksX8_of_0 : cX8_of.data.toList.drop 0 = dktX8_of_0 := by decide +kernel
theorem dX8_of_0 : decode cX8_of 0 = .ok (.aload_n 1, 1) := dk_43 (dk_at dksX8_of_0 0 rfl rfl)
theorem dX8_of_1 : decode cX8_of 1 = .ok (.aload_n 0, 1) := dk_42 (dk_at dksX8_of_0 1 rfl rfl)
theorem dX8_of_2 : decode cX8_of 2 = .ok (.getfield 7, 3) := dk_180 0 7 (dk_at dksX8_of_0 2 rfl rfl)
theorem dX8_of_5 : decode cX8_of 5 = .ok (.invokeinterface 13 2, 5) := by decide +kernel
theorem dX8_of_10 : decode cX8_of 10 = .ok (.ireturn, 1) := dk_172 (dk_at dksX8_of_0 10 rfl rfl)
theorem q109 : (Jvm.Cond.initialized "LastWordWood$Known") ∈ lw_all := lw_g (lw_at lw_m1 19 rfl) rfl
theorem q575 : (Jvm.Cond.instantiable "LastWordWood$Known" (1 : Nat)) ∈ lw_all := lw_g (lw_at lw_m3 5 rfl) rfl
theorem q577 : (Jvm.Cond.instanceMethod ({ cls := "LastWordWood$Known", name := "<init>", desc := "(I)V" } : Jvm.MethodName)) ∈ lw_all := lw_g (lw_at lw_m3 7 rfl) rfl
theorem q578 : (Jvm.Cond.code ({ cls := "LastWordWood$Known", name := "<init>", desc := "(I)V" } : Jvm.MethodName) prog_6_method_1_code (2 : Nat) (Option.none : Option Jvm.ClassFile.FieldType)) ∈ lw_all := lw_g (lw_at lw_m3 8 rfl) rfl
theorem q579 : (Jvm.Cond.methodLinkNest "LastWordWood$Known" (1 : Nat) ({ cls := "LastWordWood$Term", name := "<init>", desc := "()V" } : Jvm.MethodName) "LastWordWood") ∈ lw_tbl := lw_at lw_m3 9 rfl
theorem q580 : (Jvm.Cond.fieldLink "LastWordWood$Known" (7 : Nat) "LastWordWood$Known" "what" "I") ∈ lw_all := lw_g (lw_at lw_m3 10 rfl) rfl
theorem q581 : (Jvm.Cond.laysFinal "LastWordWood$Known" "LastWordWood$Known" "what" "I") ∈ lw_all := lw_g (lw_at lw_m3 11 rfl) rfl
theorem q582 : (Jvm.Cond.soleField "LastWordWood$Known" "what") ∈ lw_all := lw_g (lw_at lw_m3 12 rfl) rfl
theorem q583 : (Jvm.Cond.superclass "LastWordWood$Known" "LastWordWood$Term") ∈ lw_all := lw_g (lw_at lw_m3 13 rfl) rfl
theorem q681 : (Jvm.Cond.selects "LastWordWood$Known" ({ cls := "java/lang/Object", name := "getClass", desc := "()Ljava/lang/Class;" } : Jvm.MethodName) ({ cls := "java/lang/Object", name := "getClass", desc := "()Ljava/lang/Class;" } : Jvm.MethodName)) ∈ lw_all := lw_g (lw_at lw_m3 111 rfl) rfl
theorem q834 : (Jvm.Cond.instanceMethod ({ cls := "LastWordWood$Known", name := "of", desc := "(LLastWordWood$Asker;)I" } : Jvm.MethodName)) ∈ lw_all := lw_g (lw_at lw_m4 24 rfl) rfl
theorem q835 : (Jvm.Cond.code ({ cls := "LastWordWood$Known", name := "of", desc := "(LLastWordWood$Asker;)I" } : Jvm.MethodName) prog_6_method_2_code (2 : Nat) (Option.some Jvm.ClassFile.FieldType.int)) ∈ lw_all := lw_g (lw_at lw_m4 25 rfl) rfl
theorem q836 : (Jvm.Cond.interfaceEntry "LastWordWood$Known" (13 : Nat)) ∈ lw_tbl := lw_at lw_m4 26 rfl
theorem q837 : (Jvm.Cond.methodLink "LastWordWood$Known" (13 : Nat) ({ cls := "LastWordWood$Asker", name := "fact", desc := "(I)I" } : Jvm.MethodName)) ∈ lw_all := lw_g (lw_at lw_m4 27 rfl) rfl
theorem q859 : (Jvm.Cond.selects "LastWordWood$Known" ({ cls := "LastWordWood$Term", name := "of", desc := "(LLastWordWood$Asker;)I" } : Jvm.MethodName) ({ cls := "LastWordWood$Known", name := "of", desc := "(LLastWordWood$Asker;)I" } : Jvm.MethodName)) ∈ lw_all := lw_g (lw_at lw_m4 49 rfl) rfl
theorem q1484 : (Jvm.Cond.castable "LastWordWood$Known" "java/lang/Object") ∈ lw_tbl := lw_at lw_m6 194 rfl
theorem in_X8 : ∀ w ∈ wsX80, w ∈ lw_all := lw_in wsX80 [581] (by decide +kernel) (by decide +kernel)

/-! LastWordWood$Joined -/
set_option maxRecDepth 100000
def RX9 : String := "LastWordWood$Joined"
def TX9 : u_T := fun k => match k with
  | 0 => ("LastWordWood$Joined", "left", "LLastWordWood$Term;", true)
  | 1 => ("LastWordWood$Joined", "right", "LLastWordWood$Term;", true)
  | _ => ("LastWordWood$Joined", "how", "I", true)
def tyX9 : Nat → FieldType := fun k => match k with
  | 0 => .object "LastWordWood$Term"
  | 1 => .object "LastWordWood$Term"
  | _ => .int
abbrev wsX90 : List Cond := u_ws RX9 TX9 3
theorem nmX9 : ∀ a, a < 3 → ∀ b, b < 3 → a ≠ b → (TX9 a).2.1 ≠ (TX9 b).2.1 := by decide +kernel
theorem tyX9_ok : ∀ k, k < 3 → parseFieldDescriptor (TX9 k).2.2.1 = some (tyX9 k) := by decide +kernel
abbrev cX9_init : ByteArray := prog_5_method_1_code
def yX9_init : MethodName := ⟨RX9, "<init>", "(LLastWordWood$Term;ILLastWordWood$Term;)V"⟩
def dkwX9_init_0 : List UInt8 := [42, 183, 0, 3, 42, 43, 181, 0, 9, 42, 28, 181, 0, 15, 42, 45, 181, 0, 19, 177]
abbrev dktX9_init_0 : List UInt8 := dkwX9_init_0 ++ []
theorem dksX9_init_0 : cX9_init.data.toList.drop 0 = dktX9_init_0 := by decide +kernel
theorem dX9_init_0 : decode cX9_init 0 = .ok (.aload_n 0, 1) := dk_42 (dk_at dksX9_init_0 0 rfl rfl)
theorem dX9_init_1 : decode cX9_init 1 = .ok (.invokespecial 3, 3) := dk_183 0 3 (dk_at dksX9_init_0 1 rfl rfl)
theorem dX9_init_4 : decode cX9_init 4 = .ok (.aload_n 0, 1) := dk_42 (dk_at dksX9_init_0 4 rfl rfl)
theorem dX9_init_5 : decode cX9_init 5 = .ok (.aload_n 1, 1) := dk_43 (dk_at dksX9_init_0 5 rfl rfl)
theorem dX9_init_6 : decode cX9_init 6 = .ok (.putfield 9, 3) := dk_181 0 9 (dk_at dksX9_init_0 6 rfl rfl)
theorem dX9_init_9 : decode cX9_init 9 = .ok (.aload_n 0, 1) := dk_42 (dk_at dksX9_init_0 9 rfl rfl)
theorem dX9_init_10 : decode cX9_init 10 = .ok (.iload_n 2, 1) := dk_28 (dk_at dksX9_init_0 10 rfl rfl)
theorem dX9_init_11 : decode cX9_init 11 = .ok (.putfield 15, 3) := dk_181 0 15 (dk_at dksX9_init_0 11 rfl rfl)
theorem dX9_init_14 : decode cX9_init 14 = .ok (.aload_n 0, 1) := dk_42 (dk_at dksX9_init_0 14 rfl rfl)
theorem dX9_init_15 : decode cX9_init 15 = .ok (.aload_n 3, 1) := dk_45 (dk_at dksX9_init_0 15 rfl rfl)
theorem dX9_init_16 : decode cX9_init 16 = .ok (.putfield 19, 3) := dk_181 0 19 (dk_at dksX9_init_0 16 rfl rfl)
theorem dX9_init_19 : decode cX9_init 19 = .ok (.return_, 1) := dk_177 (dk_at dksX9_init_0 19 rfl rfl)
abbrev cX9_of : ByteArray := prog_5_method_2_code
def yX9_of : MethodName := ⟨RX9, "of", "(LLastWordWood$Asker;)I"⟩
def dkwX9_of_4 : List UInt8 := [167, 0, 4, 3, 172, 28, 29, 126, 172, 28, 29, 128, 172]
abbrev dktX9_of_4 : List UInt8 := dkwX9_of_4 ++ []
def dkwX9_of_3 : List UInt8 := [167, 0, 4, 3, 172, 28, 29, 160, 0, 7, 4, 167, 0, 4, 3, 172, 28, 29, 164, 0, 7, 4]
abbrev dktX9_of_3 : List UInt8 := dkwX9_of_3 ++ dktX9_of_4
def dkwX9_of_2 : List UInt8 := [28, 29, 96, 172, 28, 29, 100, 172, 28, 29, 104, 172, 28, 29, 108, 172, 28, 29, 162, 0, 7, 4]
abbrev dktX9_of_2 : List UInt8 := dkwX9_of_2 ++ dktX9_of_3
def dkwX9_of_1 : List UInt8 := [171, 0, 0, 0, 0, 127, 0, 0, 0, 8, 0, 0, 0, 5, 0, 0, 0, 123, 0, 0, 0, 42, 0, 0, 0, 82, 0, 0, 0, 43, 0, 0, 0, 74, 0, 0, 0, 45, 0, 0, 0, 78, 0, 0, 0, 47, 0, 0, 0, 86, 0, 0, 0, 60, 0, 0, 0, 90, 0, 0, 0, 61, 0, 0, 0, 101, 0, 0, 0, 62, 0, 0, 0, 112]
abbrev dktX9_of_1 : List UInt8 := dkwX9_of_1 ++ dktX9_of_2
def dkwX9_of_0 : List UInt8 := [42, 180, 0, 9, 43, 182, 0, 22, 61, 42, 180, 0, 19, 43, 182, 0, 22, 62, 42, 180, 0, 15]
abbrev dktX9_of_0 : List UInt8 := dkwX9_of_0 ++ dktX9_of_1
theorem dksX9_of_0 : cX9_of.data.toList.drop 0 = dktX9_of_0 := by decide +kernel
theorem dksX9_of_1 : cX9_of.data.toList.drop 22 = dktX9_of_1 := dk_seg dksX9_of_0 22 rfl rfl
theorem dksX9_of_2 : cX9_of.data.toList.drop 96 = dktX9_of_2 := dk_seg dksX9_of_1 74 rfl rfl
theorem dksX9_of_3 : cX9_of.data.toList.drop 118 = dktX9_of_3 := dk_seg dksX9_of_2 22 rfl rfl
theorem dksX9_of_4 : cX9_of.data.toList.drop 140 = dktX9_of_4 := dk_seg dksX9_of_3 22 rfl rfl
theorem dX9_of_0 : decode cX9_of 0 = .ok (.aload_n 0, 1) := dk_42 (dk_at dksX9_of_0 0 rfl rfl)
theorem dX9_of_1 : decode cX9_of 1 = .ok (.getfield 9, 3) := dk_180 0 9 (dk_at dksX9_of_0 1 rfl rfl)
theorem dX9_of_4 : decode cX9_of 4 = .ok (.aload_n 1, 1) := dk_43 (dk_at dksX9_of_0 4 rfl rfl)
theorem dX9_of_5 : decode cX9_of 5 = .ok (.invokevirtual 22, 3) := dk_182 0 22 (dk_at dksX9_of_0 5 rfl rfl)
theorem dX9_of_8 : decode cX9_of 8 = .ok (.istore_n 2, 1) := dk_61 (dk_at dksX9_of_0 8 rfl rfl)
theorem dX9_of_9 : decode cX9_of 9 = .ok (.aload_n 0, 1) := dk_42 (dk_at dksX9_of_0 9 rfl rfl)
theorem dX9_of_10 : decode cX9_of 10 = .ok (.getfield 19, 3) := dk_180 0 19 (dk_at dksX9_of_0 10 rfl rfl)
theorem dX9_of_13 : decode cX9_of 13 = .ok (.aload_n 1, 1) := dk_43 (dk_at dksX9_of_0 13 rfl rfl)
theorem dX9_of_14 : decode cX9_of 14 = .ok (.invokevirtual 22, 3) := dk_182 0 22 (dk_at dksX9_of_0 14 rfl rfl)
theorem dX9_of_17 : decode cX9_of 17 = .ok (.istore_n 3, 1) := dk_62 (dk_at dksX9_of_0 17 rfl rfl)
theorem dX9_of_18 : decode cX9_of 18 = .ok (.aload_n 0, 1) := dk_42 (dk_at dksX9_of_0 18 rfl rfl)
theorem dX9_of_19 : decode cX9_of 19 = .ok (.getfield 15, 3) := dk_180 0 15 (dk_at dksX9_of_0 19 rfl rfl)
theorem dX9_of_22 : decode cX9_of 22 = .ok (.lookupswitch 127 #[(5, 123), (42, 82), (43, 74), (45, 78), (47, 86), (60, 90), (61, 101), (62, 112)], 74) := by decide +kernel
theorem dX9_of_96 : decode cX9_of 96 = .ok (.iload_n 2, 1) := dk_28 (dk_at dksX9_of_2 0 rfl rfl)
theorem dX9_of_97 : decode cX9_of 97 = .ok (.iload_n 3, 1) := dk_29 (dk_at dksX9_of_2 1 rfl rfl)
theorem dX9_of_98 : decode cX9_of 98 = .ok (.iadd, 1) := dk_96 (dk_at dksX9_of_2 2 rfl rfl)
theorem dX9_of_99 : decode cX9_of 99 = .ok (.ireturn, 1) := dk_172 (dk_at dksX9_of_2 3 rfl rfl)
theorem dX9_of_100 : decode cX9_of 100 = .ok (.iload_n 2, 1) := dk_28 (dk_at dksX9_of_2 4 rfl rfl)
theorem dX9_of_101 : decode cX9_of 101 = .ok (.iload_n 3, 1) := dk_29 (dk_at dksX9_of_2 5 rfl rfl)
theorem dX9_of_102 : decode cX9_of 102 = .ok (.isub, 1) := dk_100 (dk_at dksX9_of_2 6 rfl rfl)
theorem dX9_of_103 : decode cX9_of 103 = .ok (.ireturn, 1) := dk_172 (dk_at dksX9_of_2 7 rfl rfl)
theorem dX9_of_104 : decode cX9_of 104 = .ok (.iload_n 2, 1) := dk_28 (dk_at dksX9_of_2 8 rfl rfl)
theorem dX9_of_105 : decode cX9_of 105 = .ok (.iload_n 3, 1) := dk_29 (dk_at dksX9_of_2 9 rfl rfl)
theorem dX9_of_106 : decode cX9_of 106 = .ok (.imul, 1) := dk_104 (dk_at dksX9_of_2 10 rfl rfl)
theorem dX9_of_107 : decode cX9_of 107 = .ok (.ireturn, 1) := dk_172 (dk_at dksX9_of_2 11 rfl rfl)
theorem dX9_of_108 : decode cX9_of 108 = .ok (.iload_n 2, 1) := dk_28 (dk_at dksX9_of_2 12 rfl rfl)
theorem dX9_of_109 : decode cX9_of 109 = .ok (.iload_n 3, 1) := dk_29 (dk_at dksX9_of_2 13 rfl rfl)
theorem dX9_of_110 : decode cX9_of 110 = .ok (.idiv, 1) := dk_108 (dk_at dksX9_of_2 14 rfl rfl)
theorem dX9_of_111 : decode cX9_of 111 = .ok (.ireturn, 1) := dk_172 (dk_at dksX9_of_2 15 rfl rfl)
theorem dX9_of_112 : decode cX9_of 112 = .ok (.iload_n 2, 1) := dk_28 (dk_at dksX9_of_2 16 rfl rfl)
theorem dX9_of_113 : decode cX9_of 113 = .ok (.iload_n 3, 1) := dk_29 (dk_at dksX9_of_2 17 rfl rfl)
theorem dX9_of_114 : decode cX9_of 114 = .ok (.if_icmp .ge 7, 3) := dk_162 0 7 (dk_at dksX9_of_2 18 rfl rfl)
theorem dX9_of_117 : decode cX9_of 117 = .ok (.iconst 1, 1) := dk_4 (dk_at dksX9_of_2 21 rfl rfl)
theorem dX9_of_118 : decode cX9_of 118 = .ok (.goto 4, 3) := dk_167 0 4 (dk_at dksX9_of_3 0 rfl rfl)
theorem dX9_of_121 : decode cX9_of 121 = .ok (.iconst 0, 1) := dk_3 (dk_at dksX9_of_3 3 rfl rfl)
theorem dX9_of_122 : decode cX9_of 122 = .ok (.ireturn, 1) := dk_172 (dk_at dksX9_of_3 4 rfl rfl)
theorem dX9_of_123 : decode cX9_of 123 = .ok (.iload_n 2, 1) := dk_28 (dk_at dksX9_of_3 5 rfl rfl)
theorem dX9_of_124 : decode cX9_of 124 = .ok (.iload_n 3, 1) := dk_29 (dk_at dksX9_of_3 6 rfl rfl)
theorem dX9_of_125 : decode cX9_of 125 = .ok (.if_icmp .ne 7, 3) := dk_160 0 7 (dk_at dksX9_of_3 7 rfl rfl)
theorem dX9_of_128 : decode cX9_of 128 = .ok (.iconst 1, 1) := dk_4 (dk_at dksX9_of_3 10 rfl rfl)
theorem dX9_of_129 : decode cX9_of 129 = .ok (.goto 4, 3) := dk_167 0 4 (dk_at dksX9_of_3 11 rfl rfl)
theorem dX9_of_132 : decode cX9_of 132 = .ok (.iconst 0, 1) := dk_3 (dk_at dksX9_of_3 14 rfl rfl)
theorem dX9_of_133 : decode cX9_of 133 = .ok (.ireturn, 1) := dk_172 (dk_at dksX9_of_3 15 rfl rfl)
theorem dX9_of_134 : decode cX9_of 134 = .ok (.iload_n 2, 1) := dk_28 (dk_at dksX9_of_3 16 rfl rfl)
theorem dX9_of_135 : decode cX9_of 135 = .ok (.iload_n 3, 1) := dk_29 (dk_at dksX9_of_3 17 rfl rfl)
theorem dX9_of_136 : decode cX9_of 136 = .ok (.if_icmp .le 7, 3) := dk_164 0 7 (dk_at dksX9_of_3 18 rfl rfl)
theorem dX9_of_139 : decode cX9_of 139 = .ok (.iconst 1, 1) := dk_4 (dk_at dksX9_of_3 21 rfl rfl)
theorem dX9_of_140 : decode cX9_of 140 = .ok (.goto 4, 3) := dk_167 0 4 (dk_at dksX9_of_4 0 rfl rfl)
theorem dX9_of_143 : decode cX9_of 143 = .ok (.iconst 0, 1) := dk_3 (dk_at dksX9_of_4 3 rfl rfl)
theorem dX9_of_144 : decode cX9_of 144 = .ok (.ireturn, 1) := dk_172 (dk_at dksX9_of_4 4 rfl rfl)
theorem dX9_of_145 : decode cX9_of 145 = .ok (.iload_n 2, 1) := dk_28 (dk_at dksX9_of_4 5 rfl rfl)
theorem dX9_of_146 : decode cX9_of 146 = .ok (.iload_n 3, 1) := dk_29 (dk_at dksX9_of_4 6 rfl rfl)
theorem dX9_of_147 : decode cX9_of 147 = .ok (.iand, 1) := dk_126 (dk_at dksX9_of_4 7 rfl rfl)
theorem dX9_of_148 : decode cX9_of 148 = .ok (.ireturn, 1) := dk_172 (dk_at dksX9_of_4 8 rfl rfl)
theorem dX9_of_149 : decode cX9_of 149 = .ok (.iload_n 2, 1) := dk_28 (dk_at dksX9_of_4 9 rfl rfl)
theorem dX9_of_150 : decode cX9_of 150 = .ok (.iload_n 3, 1) := dk_29 (dk_at dksX9_of_4 10 rfl rfl)
theorem dX9_of_151 : decode cX9_of 151 = .ok (.ior, 1) := dk_128 (dk_at dksX9_of_4 11 rfl rfl)
theorem dX9_of_152 : decode cX9_of 152 = .ok (.ireturn, 1) := dk_172 (dk_at dksX9_of_4 12 rfl rfl)
theorem q110 : (Jvm.Cond.initialized "LastWordWood$Joined") ∈ lw_all := lw_g (lw_at lw_m1 20 rfl) rfl
theorem q585 : (Jvm.Cond.instantiable "LastWordWood$Joined" (3 : Nat)) ∈ lw_all := lw_g (lw_at lw_m3 15 rfl) rfl
theorem q587 : (Jvm.Cond.instanceMethod ({ cls := "LastWordWood$Joined", name := "<init>", desc := "(LLastWordWood$Term;ILLastWordWood$Term;)V" } : Jvm.MethodName)) ∈ lw_all := lw_g (lw_at lw_m3 17 rfl) rfl
theorem q588 : (Jvm.Cond.code ({ cls := "LastWordWood$Joined", name := "<init>", desc := "(LLastWordWood$Term;ILLastWordWood$Term;)V" } : Jvm.MethodName) prog_5_method_1_code (4 : Nat) (Option.none : Option Jvm.ClassFile.FieldType)) ∈ lw_all := lw_g (lw_at lw_m3 18 rfl) rfl
theorem q589 : (Jvm.Cond.methodLinkNest "LastWordWood$Joined" (3 : Nat) ({ cls := "LastWordWood$Term", name := "<init>", desc := "()V" } : Jvm.MethodName) "LastWordWood") ∈ lw_tbl := lw_at lw_m3 19 rfl
theorem q590 : (Jvm.Cond.fieldLink "LastWordWood$Joined" (9 : Nat) "LastWordWood$Joined" "left" "LLastWordWood$Term;") ∈ lw_all := lw_g (lw_at lw_m3 20 rfl) rfl
theorem q591 : (Jvm.Cond.fieldLink "LastWordWood$Joined" (19 : Nat) "LastWordWood$Joined" "right" "LLastWordWood$Term;") ∈ lw_all := lw_g (lw_at lw_m3 21 rfl) rfl
theorem q592 : (Jvm.Cond.fieldLink "LastWordWood$Joined" (15 : Nat) "LastWordWood$Joined" "how" "I") ∈ lw_all := lw_g (lw_at lw_m3 22 rfl) rfl
theorem q593 : (Jvm.Cond.laysFinal "LastWordWood$Joined" "LastWordWood$Joined" "left" "LLastWordWood$Term;") ∈ lw_all := lw_g (lw_at lw_m3 23 rfl) rfl
theorem q594 : (Jvm.Cond.soleField "LastWordWood$Joined" "left") ∈ lw_all := lw_g (lw_at lw_m3 24 rfl) rfl
theorem q595 : (Jvm.Cond.laysFinal "LastWordWood$Joined" "LastWordWood$Joined" "right" "LLastWordWood$Term;") ∈ lw_all := lw_g (lw_at lw_m3 25 rfl) rfl
theorem q596 : (Jvm.Cond.soleField "LastWordWood$Joined" "right") ∈ lw_all := lw_g (lw_at lw_m3 26 rfl) rfl
theorem q597 : (Jvm.Cond.laysFinal "LastWordWood$Joined" "LastWordWood$Joined" "how" "I") ∈ lw_all := lw_g (lw_at lw_m3 27 rfl) rfl
theorem q598 : (Jvm.Cond.soleField "LastWordWood$Joined" "how") ∈ lw_all := lw_g (lw_at lw_m3 28 rfl) rfl
theorem q599 : (Jvm.Cond.superclass "LastWordWood$Joined" "LastWordWood$Term") ∈ lw_all := lw_g (lw_at lw_m3 29 rfl) rfl
theorem q680 : (Jvm.Cond.selects "LastWordWood$Joined" ({ cls := "java/lang/Object", name := "getClass", desc := "()Ljava/lang/Class;" } : Jvm.MethodName) ({ cls := "java/lang/Object", name := "getClass", desc := "()Ljava/lang/Class;" } : Jvm.MethodName)) ∈ lw_all := lw_g (lw_at lw_m3 110 rfl) rfl
theorem q830 : (Jvm.Cond.selects "LastWordWood$Joined" ({ cls := "LastWordWood$Term", name := "of", desc := "(LLastWordWood$Asker;)I" } : Jvm.MethodName) ({ cls := "LastWordWood$Joined", name := "of", desc := "(LLastWordWood$Asker;)I" } : Jvm.MethodName)) ∈ lw_all := lw_g (lw_at lw_m4 20 rfl) rfl
theorem q831 : (Jvm.Cond.instanceMethod ({ cls := "LastWordWood$Joined", name := "of", desc := "(LLastWordWood$Asker;)I" } : Jvm.MethodName)) ∈ lw_all := lw_g (lw_at lw_m4 21 rfl) rfl
theorem q832 : (Jvm.Cond.code ({ cls := "LastWordWood$Joined", name := "of", desc := "(LLastWordWood$Asker;)I" } : Jvm.MethodName) prog_5_method_2_code (4 : Nat) (Option.some Jvm.ClassFile.FieldType.int)) ∈ lw_all := lw_g (lw_at lw_m4 22 rfl) rfl
theorem q833 : (Jvm.Cond.methodLink "LastWordWood$Joined" (22 : Nat) ({ cls := "LastWordWood$Term", name := "of", desc := "(LLastWordWood$Asker;)I" } : Jvm.MethodName)) ∈ lw_all := lw_g (lw_at lw_m4 23 rfl) rfl
theorem q1485 : (Jvm.Cond.castable "LastWordWood$Joined" "java/lang/Object") ∈ lw_tbl := lw_at lw_m6 195 rfl
theorem in_X9 : ∀ w ∈ wsX90, w ∈ lw_all := lw_in wsX90 [593, 595, 597] (by decide +kernel) (by decide +kernel)

/-! LastWordWood$Not -/
set_option maxRecDepth 100000
def RX10 : String := "LastWordWood$Not"
def TX10 : u_T := fun k => match k with
  | _ => ("LastWordWood$Not", "term", "LLastWordWood$Term;", true)
def tyX10 : Nat → FieldType := fun k => match k with
  | _ => .object "LastWordWood$Term"
abbrev wsX100 : List Cond := u_ws RX10 TX10 1
theorem nmX10 : ∀ a, a < 1 → ∀ b, b < 1 → a ≠ b → (TX10 a).2.1 ≠ (TX10 b).2.1 := by decide +kernel
theorem tyX10_ok : ∀ k, k < 1 → parseFieldDescriptor (TX10 k).2.2.1 = some (tyX10 k) := by decide +kernel
abbrev cX10_init : ByteArray := prog_8_method_1_code
def yX10_init : MethodName := ⟨RX10, "<init>", "(LLastWordWood$Term;)V"⟩
def dkwX10_init_0 : List UInt8 := [42, 183, 0, 1, 42, 43, 181, 0, 7, 177]
abbrev dktX10_init_0 : List UInt8 := dkwX10_init_0 ++ []
theorem dksX10_init_0 : cX10_init.data.toList.drop 0 = dktX10_init_0 := by decide +kernel
theorem dX10_init_0 : decode cX10_init 0 = .ok (.aload_n 0, 1) := dk_42 (dk_at dksX10_init_0 0 rfl rfl)
theorem dX10_init_1 : decode cX10_init 1 = .ok (.invokespecial 1, 3) := dk_183 0 1 (dk_at dksX10_init_0 1 rfl rfl)
theorem dX10_init_4 : decode cX10_init 4 = .ok (.aload_n 0, 1) := dk_42 (dk_at dksX10_init_0 4 rfl rfl)
theorem dX10_init_5 : decode cX10_init 5 = .ok (.aload_n 1, 1) := dk_43 (dk_at dksX10_init_0 5 rfl rfl)
theorem dX10_init_6 : decode cX10_init 6 = .ok (.putfield 7, 3) := dk_181 0 7 (dk_at dksX10_init_0 6 rfl rfl)
theorem dX10_init_9 : decode cX10_init 9 = .ok (.return_, 1) := dk_177 (dk_at dksX10_init_0 9 rfl rfl)
abbrev cX10_of : ByteArray := prog_8_method_2_code
def yX10_of : MethodName := ⟨RX10, "of", "(LLastWordWood$Asker;)I"⟩
def dkwX10_of_0 : List UInt8 := [4, 42, 180, 0, 7, 43, 182, 0, 13, 100, 172]
abbrev dktX10_of_0 : List UInt8 := dkwX10_of_0 ++ []
theorem dksX10_of_0 : cX10_of.data.toList.drop 0 = dktX10_of_0 := by decide +kernel
theorem dX10_of_0 : decode cX10_of 0 = .ok (.iconst 1, 1) := dk_4 (dk_at dksX10_of_0 0 rfl rfl)
theorem dX10_of_1 : decode cX10_of 1 = .ok (.aload_n 0, 1) := dk_42 (dk_at dksX10_of_0 1 rfl rfl)
theorem dX10_of_2 : decode cX10_of 2 = .ok (.getfield 7, 3) := dk_180 0 7 (dk_at dksX10_of_0 2 rfl rfl)
theorem dX10_of_5 : decode cX10_of 5 = .ok (.aload_n 1, 1) := dk_43 (dk_at dksX10_of_0 5 rfl rfl)
theorem dX10_of_6 : decode cX10_of 6 = .ok (.invokevirtual 13, 3) := dk_182 0 13 (dk_at dksX10_of_0 6 rfl rfl)
theorem dX10_of_9 : decode cX10_of 9 = .ok (.isub, 1) := dk_100 (dk_at dksX10_of_0 9 rfl rfl)
theorem dX10_of_10 : decode cX10_of 10 = .ok (.ireturn, 1) := dk_172 (dk_at dksX10_of_0 10 rfl rfl)
theorem q111 : (Jvm.Cond.initialized "LastWordWood$Not") ∈ lw_all := lw_g (lw_at lw_m1 21 rfl) rfl
theorem q617 : (Jvm.Cond.instantiable "LastWordWood$Not" (1 : Nat)) ∈ lw_all := lw_g (lw_at lw_m3 47 rfl) rfl
theorem q619 : (Jvm.Cond.instanceMethod ({ cls := "LastWordWood$Not", name := "<init>", desc := "(LLastWordWood$Term;)V" } : Jvm.MethodName)) ∈ lw_all := lw_g (lw_at lw_m3 49 rfl) rfl
theorem q620 : (Jvm.Cond.code ({ cls := "LastWordWood$Not", name := "<init>", desc := "(LLastWordWood$Term;)V" } : Jvm.MethodName) prog_8_method_1_code (2 : Nat) (Option.none : Option Jvm.ClassFile.FieldType)) ∈ lw_all := lw_g (lw_at lw_m3 50 rfl) rfl
theorem q621 : (Jvm.Cond.methodLinkNest "LastWordWood$Not" (1 : Nat) ({ cls := "LastWordWood$Term", name := "<init>", desc := "()V" } : Jvm.MethodName) "LastWordWood") ∈ lw_tbl := lw_at lw_m3 51 rfl
theorem q622 : (Jvm.Cond.fieldLink "LastWordWood$Not" (7 : Nat) "LastWordWood$Not" "term" "LLastWordWood$Term;") ∈ lw_all := lw_g (lw_at lw_m3 52 rfl) rfl
theorem q623 : (Jvm.Cond.laysFinal "LastWordWood$Not" "LastWordWood$Not" "term" "LLastWordWood$Term;") ∈ lw_all := lw_g (lw_at lw_m3 53 rfl) rfl
theorem q624 : (Jvm.Cond.soleField "LastWordWood$Not" "term") ∈ lw_all := lw_g (lw_at lw_m3 54 rfl) rfl
theorem q625 : (Jvm.Cond.superclass "LastWordWood$Not" "LastWordWood$Term") ∈ lw_all := lw_g (lw_at lw_m3 55 rfl) rfl
theorem q683 : (Jvm.Cond.selects "LastWordWood$Not" ({ cls := "java/lang/Object", name := "getClass", desc := "()Ljava/lang/Class;" } : Jvm.MethodName) ({ cls := "java/lang/Object", name := "getClass", desc := "()Ljava/lang/Class;" } : Jvm.MethodName)) ∈ lw_all := lw_g (lw_at lw_m3 113 rfl) rfl
theorem q856 : (Jvm.Cond.instanceMethod ({ cls := "LastWordWood$Not", name := "of", desc := "(LLastWordWood$Asker;)I" } : Jvm.MethodName)) ∈ lw_all := lw_g (lw_at lw_m4 46 rfl) rfl
theorem q857 : (Jvm.Cond.code ({ cls := "LastWordWood$Not", name := "of", desc := "(LLastWordWood$Asker;)I" } : Jvm.MethodName) prog_8_method_2_code (2 : Nat) (Option.some Jvm.ClassFile.FieldType.int)) ∈ lw_all := lw_g (lw_at lw_m4 47 rfl) rfl
theorem q858 : (Jvm.Cond.methodLink "LastWordWood$Not" (13 : Nat) ({ cls := "LastWordWood$Term", name := "of", desc := "(LLastWordWood$Asker;)I" } : Jvm.MethodName)) ∈ lw_all := lw_g (lw_at lw_m4 48 rfl) rfl
theorem q860 : (Jvm.Cond.selects "LastWordWood$Not" ({ cls := "LastWordWood$Term", name := "of", desc := "(LLastWordWood$Asker;)I" } : Jvm.MethodName) ({ cls := "LastWordWood$Not", name := "of", desc := "(LLastWordWood$Asker;)I" } : Jvm.MethodName)) ∈ lw_all := lw_g (lw_at lw_m4 50 rfl) rfl
theorem q1486 : (Jvm.Cond.castable "LastWordWood$Not" "java/lang/Object") ∈ lw_tbl := lw_at lw_m6 196 rfl
theorem in_X10 : ∀ w ∈ wsX100, w ∈ lw_all := lw_in wsX100 [623] (by decide +kernel) (by decide +kernel)

/-! LastWordWood$Line -/
set_option maxRecDepth 100000
def RX11 : String := "LastWordWood$Line"
def TX11 : u_T := fun k => match k with
  | 0 => ("LastWordWood$Line", "grows", "LLastWordWood$Term;", true)
  | _ => ("LastWordWood$Line", "when", "LLastWordWood$Term;", true)
def tyX11 : Nat → FieldType := fun k => match k with
  | 0 => .object "LastWordWood$Term"
  | _ => .object "LastWordWood$Term"
abbrev wsX110 : List Cond := u_ws RX11 TX11 2
theorem nmX11 : ∀ a, a < 2 → ∀ b, b < 2 → a ≠ b → (TX11 a).2.1 ≠ (TX11 b).2.1 := by decide +kernel
theorem tyX11_ok : ∀ k, k < 2 → parseFieldDescriptor (TX11 k).2.2.1 = some (tyX11 k) := by decide +kernel
abbrev cX11_init : ByteArray := prog_7_method_1_code
def yX11_init : MethodName := ⟨RX11, "<init>", "(LLastWordWood$Term;LLastWordWood$Term;)V"⟩
def dkwX11_init_0 : List UInt8 := [42, 183, 0, 1, 42, 43, 181, 0, 7, 42, 44, 181, 0, 13, 177]
abbrev dktX11_init_0 : List UInt8 := dkwX11_init_0 ++ []
theorem dksX11_init_0 : cX11_init.data.toList.drop 0 = dktX11_init_0 := by decide +kernel
theorem dX11_init_0 : decode cX11_init 0 = .ok (.aload_n 0, 1) := dk_42 (dk_at dksX11_init_0 0 rfl rfl)
theorem dX11_init_1 : decode cX11_init 1 = .ok (.invokespecial 1, 3) := dk_183 0 1 (dk_at dksX11_init_0 1 rfl rfl)
theorem dX11_init_4 : decode cX11_init 4 = .ok (.aload_n 0, 1) := dk_42 (dk_at dksX11_init_0 4 rfl rfl)
theorem dX11_init_5 : decode cX11_init 5 = .ok (.aload_n 1, 1) := dk_43 (dk_at dksX11_init_0 5 rfl rfl)
theorem dX11_init_6 : decode cX11_init 6 = .ok (.putfield 7, 3) := dk_181 0 7 (dk_at dksX11_init_0 6 rfl rfl)
theorem dX11_init_9 : decode cX11_init 9 = .ok (.aload_n 0, 1) := dk_42 (dk_at dksX11_init_0 9 rfl rfl)
theorem dX11_init_10 : decode cX11_init 10 = .ok (.aload_n 2, 1) := dk_44 (dk_at dksX11_init_0 10 rfl rfl)
theorem dX11_init_11 : decode cX11_init 11 = .ok (.putfield 13, 3) := dk_181 0 13 (dk_at dksX11_init_0 11 rfl rfl)
theorem dX11_init_14 : decode cX11_init 14 = .ok (.return_, 1) := dk_177 (dk_at dksX11_init_0 14 rfl rfl)
theorem q112 : (Jvm.Cond.initialized "LastWordWood$Line") ∈ lw_all := lw_g (lw_at lw_m1 22 rfl) rfl
theorem q631 : (Jvm.Cond.instantiable "LastWordWood$Line" (2 : Nat)) ∈ lw_all := lw_g (lw_at lw_m3 61 rfl) rfl
theorem q633 : (Jvm.Cond.instanceMethod ({ cls := "LastWordWood$Line", name := "<init>", desc := "(LLastWordWood$Term;LLastWordWood$Term;)V" } : Jvm.MethodName)) ∈ lw_all := lw_g (lw_at lw_m3 63 rfl) rfl
theorem q634 : (Jvm.Cond.code ({ cls := "LastWordWood$Line", name := "<init>", desc := "(LLastWordWood$Term;LLastWordWood$Term;)V" } : Jvm.MethodName) prog_7_method_1_code (3 : Nat) (Option.none : Option Jvm.ClassFile.FieldType)) ∈ lw_all := lw_g (lw_at lw_m3 64 rfl) rfl
theorem q635 : (Jvm.Cond.methodLink "LastWordWood$Line" (1 : Nat) ({ cls := "java/lang/Object", name := "<init>", desc := "()V" } : Jvm.MethodName)) ∈ lw_all := lw_g (lw_at lw_m3 65 rfl) rfl
theorem q636 : (Jvm.Cond.fieldLink "LastWordWood$Line" (7 : Nat) "LastWordWood$Line" "grows" "LLastWordWood$Term;") ∈ lw_all := lw_g (lw_at lw_m3 66 rfl) rfl
theorem q638 : (Jvm.Cond.fieldLink "LastWordWood$Line" (13 : Nat) "LastWordWood$Line" "when" "LLastWordWood$Term;") ∈ lw_all := lw_g (lw_at lw_m3 68 rfl) rfl
theorem q640 : (Jvm.Cond.laysFinal "LastWordWood$Line" "LastWordWood$Line" "grows" "LLastWordWood$Term;") ∈ lw_all := lw_g (lw_at lw_m3 70 rfl) rfl
theorem q641 : (Jvm.Cond.soleField "LastWordWood$Line" "grows") ∈ lw_all := lw_g (lw_at lw_m3 71 rfl) rfl
theorem q642 : (Jvm.Cond.laysFinal "LastWordWood$Line" "LastWordWood$Line" "when" "LLastWordWood$Term;") ∈ lw_all := lw_g (lw_at lw_m3 72 rfl) rfl
theorem q643 : (Jvm.Cond.soleField "LastWordWood$Line" "when") ∈ lw_all := lw_g (lw_at lw_m3 73 rfl) rfl
theorem q644 : (Jvm.Cond.superclass "LastWordWood$Line" "java/lang/Object") ∈ lw_all := lw_g (lw_at lw_m3 74 rfl) rfl
theorem q682 : (Jvm.Cond.selects "LastWordWood$Line" ({ cls := "java/lang/Object", name := "getClass", desc := "()Ljava/lang/Class;" } : Jvm.MethodName) ({ cls := "java/lang/Object", name := "getClass", desc := "()Ljava/lang/Class;" } : Jvm.MethodName)) ∈ lw_all := lw_g (lw_at lw_m3 112 rfl) rfl
theorem q1487 : (Jvm.Cond.castable "LastWordWood$Line" "java/lang/Object") ∈ lw_tbl := lw_at lw_m6 197 rfl
theorem in_X11 : ∀ w ∈ wsX110, w ∈ lw_all := lw_in wsX110 [640, 642] (by decide +kernel) (by decide +kernel)
