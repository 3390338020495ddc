/-! LastWordWood -/
set_option maxRecDepth 100000
def RX0 : String := "LastWordWood"
def TX0 : u_T := fun k => match k with
  | 0 => ("LastWordWood", "tape", "[B", true)
  | 1 => ("LastWordWood", "taped", "I", false)
  | 2 => ("LastWordWood", "faultKind", "I", false)
  | 3 => ("LastWordWood", "faultPlace", "I", false)
  | 4 => ("LastWordWood", "wood", "LLastWordWood$Wood;", true)
  | 5 => ("LastWordWood", "kept", "LLastWordWood$Wood;", true)
  | 6 => ("LastWordWood", "thought", "LLastWordWood$Wood;", true)
  | 7 => ("LastWordWood", "back", "[LLastWordWood$Wood;", true)
  | 8 => ("LastWordWood", "backMany", "I", false)
  | 9 => ("LastWordWood", "hasImage", "Z", false)
  | 10 => ("LastWordWood", "rest", "[[I", true)
  | _ => ("LastWordWood", "spice", "[I", true)
def tyX0 : Nat → FieldType := fun k => match k with
  | 0 => .array .byte
  | 1 => .int
  | 2 => .int
  | 3 => .int
  | 4 => .object "LastWordWood$Wood"
  | 5 => .object "LastWordWood$Wood"
  | 6 => .object "LastWordWood$Wood"
  | 7 => .array (.object "LastWordWood$Wood")
  | 8 => .int
  | 9 => .boolean
  | 10 => .array (.array .int)
  | _ => .array .int
abbrev wsX00 : List Cond := u_ws RX0 TX0 12
theorem nmX0 : ∀ a, a < 12 → ∀ b, b < 12 → a ≠ b → (TX0 a).2.1 ≠ (TX0 b).2.1 := by decide +kernel
theorem tyX0_ok : ∀ k, k < 12 → parseFieldDescriptor (TX0 k).2.2.1 = some (tyX0 k) := by decide +kernel
abbrev cX0_init : ByteArray := prog_1_method_1_code
def yX0_init : MethodName := ⟨RX0, "<init>", "()V"⟩
def dkwX0_init_4 : List UInt8 := [197, 0, 34, 2, 181, 0, 36, 42, 16, 12, 188, 10, 181, 0, 39, 177]
abbrev dktX0_init_4 : List UInt8 := dkwX0_init_4 ++ []
def dkwX0_init_3 : List UInt8 := [180, 0, 30, 27, 187, 0, 17, 89, 183, 0, 19, 83, 132, 1, 1, 167, 255, 234, 42, 16, 64, 16, 64]
abbrev dktX0_init_3 : List UInt8 := dkwX0_init_3 ++ dktX0_init_4
def dkwX0_init_2 : List UInt8 := [183, 0, 19, 181, 0, 27, 42, 16, 12, 189, 0, 17, 181, 0, 30, 3, 60, 27, 16, 12, 162, 0, 22, 42]
abbrev dktX0_init_2 : List UInt8 := dkwX0_init_2 ++ dktX0_init_3
def dkwX0_init_1 : List UInt8 := [183, 0, 19, 181, 0, 20, 42, 187, 0, 17, 89, 183, 0, 19, 181, 0, 24, 42, 187, 0, 17, 89]
abbrev dktX0_init_1 : List UInt8 := dkwX0_init_1 ++ dktX0_init_2
def dkwX0_init_0 : List UInt8 := [42, 183, 0, 1, 42, 17, 1, 144, 188, 8, 181, 0, 9, 42, 2, 181, 0, 13, 42, 187, 0, 17, 89]
abbrev dktX0_init_0 : List UInt8 := dkwX0_init_0 ++ dktX0_init_1
theorem dksX0_init_0 : cX0_init.data.toList.drop 0 = dktX0_init_0 := by decide +kernel
theorem dksX0_init_1 : cX0_init.data.toList.drop 23 = dktX0_init_1 := dk_seg dksX0_init_0 23 rfl rfl
theorem dksX0_init_2 : cX0_init.data.toList.drop 45 = dktX0_init_2 := dk_seg dksX0_init_1 22 rfl rfl
theorem dksX0_init_3 : cX0_init.data.toList.drop 69 = dktX0_init_3 := dk_seg dksX0_init_2 24 rfl rfl
theorem dksX0_init_4 : cX0_init.data.toList.drop 92 = dktX0_init_4 := dk_seg dksX0_init_3 23 rfl rfl
theorem dX0_init_0 : decode cX0_init 0 = .ok (.aload_n 0, 1) := dk_42 (dk_at dksX0_init_0 0 rfl rfl)
theorem dX0_init_1 : decode cX0_init 1 = .ok (.invokespecial 1, 3) := dk_183 0 1 (dk_at dksX0_init_0 1 rfl rfl)
theorem dX0_init_4 : decode cX0_init 4 = .ok (.aload_n 0, 1) := dk_42 (dk_at dksX0_init_0 4 rfl rfl)
theorem dX0_init_5 : decode cX0_init 5 = .ok (.sipush 400, 3) := dk_17 1 144 (dk_at dksX0_init_0 5 rfl rfl)
theorem dX0_init_8 : decode cX0_init 8 = .ok (.newarray .byte, 2) := dk_188_8 (dk_at dksX0_init_0 8 rfl rfl)
theorem dX0_init_10 : decode cX0_init 10 = .ok (.putfield 9, 3) := dk_181 0 9 (dk_at dksX0_init_0 10 rfl rfl)
theorem dX0_init_13 : decode cX0_init 13 = .ok (.aload_n 0, 1) := dk_42 (dk_at dksX0_init_0 13 rfl rfl)
theorem dX0_init_14 : decode cX0_init 14 = .ok (.iconst (-1), 1) := dk_2 (dk_at dksX0_init_0 14 rfl rfl)
theorem dX0_init_15 : decode cX0_init 15 = .ok (.putfield 13, 3) := dk_181 0 13 (dk_at dksX0_init_0 15 rfl rfl)
theorem dX0_init_18 : decode cX0_init 18 = .ok (.aload_n 0, 1) := dk_42 (dk_at dksX0_init_0 18 rfl rfl)
theorem dX0_init_19 : decode cX0_init 19 = .ok (.new 17, 3) := dk_187 0 17 (dk_at dksX0_init_0 19 rfl rfl)
theorem dX0_init_22 : decode cX0_init 22 = .ok (.dup, 1) := dk_89 (dk_at dksX0_init_0 22 rfl rfl)
theorem dX0_init_23 : decode cX0_init 23 = .ok (.invokespecial 19, 3) := dk_183 0 19 (dk_at dksX0_init_1 0 rfl rfl)
theorem dX0_init_26 : decode cX0_init 26 = .ok (.putfield 20, 3) := dk_181 0 20 (dk_at dksX0_init_1 3 rfl rfl)
theorem dX0_init_29 : decode cX0_init 29 = .ok (.aload_n 0, 1) := dk_42 (dk_at dksX0_init_1 6 rfl rfl)
theorem dX0_init_30 : decode cX0_init 30 = .ok (.new 17, 3) := dk_187 0 17 (dk_at dksX0_init_1 7 rfl rfl)
theorem dX0_init_33 : decode cX0_init 33 = .ok (.dup, 1) := dk_89 (dk_at dksX0_init_1 10 rfl rfl)
theorem dX0_init_34 : decode cX0_init 34 = .ok (.invokespecial 19, 3) := dk_183 0 19 (dk_at dksX0_init_1 11 rfl rfl)
theorem dX0_init_37 : decode cX0_init 37 = .ok (.putfield 24, 3) := dk_181 0 24 (dk_at dksX0_init_1 14 rfl rfl)
theorem dX0_init_40 : decode cX0_init 40 = .ok (.aload_n 0, 1) := dk_42 (dk_at dksX0_init_1 17 rfl rfl)
theorem dX0_init_41 : decode cX0_init 41 = .ok (.new 17, 3) := dk_187 0 17 (dk_at dksX0_init_1 18 rfl rfl)
theorem dX0_init_44 : decode cX0_init 44 = .ok (.dup, 1) := dk_89 (dk_at dksX0_init_1 21 rfl rfl)
theorem dX0_init_45 : decode cX0_init 45 = .ok (.invokespecial 19, 3) := dk_183 0 19 (dk_at dksX0_init_2 0 rfl rfl)
theorem dX0_init_48 : decode cX0_init 48 = .ok (.putfield 27, 3) := dk_181 0 27 (dk_at dksX0_init_2 3 rfl rfl)
theorem dX0_init_51 : decode cX0_init 51 = .ok (.aload_n 0, 1) := dk_42 (dk_at dksX0_init_2 6 rfl rfl)
theorem dX0_init_52 : decode cX0_init 52 = .ok (.bipush 12, 2) := dk_16 12 (dk_at dksX0_init_2 7 rfl rfl)
theorem dX0_init_54 : decode cX0_init 54 = .ok (.anewarray 17, 3) := dk_189 0 17 (dk_at dksX0_init_2 9 rfl rfl)
theorem dX0_init_57 : decode cX0_init 57 = .ok (.putfield 30, 3) := dk_181 0 30 (dk_at dksX0_init_2 12 rfl rfl)
theorem dX0_init_60 : decode cX0_init 60 = .ok (.iconst 0, 1) := dk_3 (dk_at dksX0_init_2 15 rfl rfl)
theorem dX0_init_61 : decode cX0_init 61 = .ok (.istore_n 1, 1) := dk_60 (dk_at dksX0_init_2 16 rfl rfl)
theorem dX0_init_62 : decode cX0_init 62 = .ok (.iload_n 1, 1) := dk_27 (dk_at dksX0_init_2 17 rfl rfl)
theorem dX0_init_63 : decode cX0_init 63 = .ok (.bipush 12, 2) := dk_16 12 (dk_at dksX0_init_2 18 rfl rfl)
theorem dX0_init_65 : decode cX0_init 65 = .ok (.if_icmp .ge 22, 3) := dk_162 0 22 (dk_at dksX0_init_2 20 rfl rfl)
theorem dX0_init_68 : decode cX0_init 68 = .ok (.aload_n 0, 1) := dk_42 (dk_at dksX0_init_2 23 rfl rfl)
theorem dX0_init_69 : decode cX0_init 69 = .ok (.getfield 30, 3) := dk_180 0 30 (dk_at dksX0_init_3 0 rfl rfl)
theorem dX0_init_72 : decode cX0_init 72 = .ok (.iload_n 1, 1) := dk_27 (dk_at dksX0_init_3 3 rfl rfl)
theorem dX0_init_73 : decode cX0_init 73 = .ok (.new 17, 3) := dk_187 0 17 (dk_at dksX0_init_3 4 rfl rfl)
theorem dX0_init_76 : decode cX0_init 76 = .ok (.dup, 1) := dk_89 (dk_at dksX0_init_3 7 rfl rfl)
theorem dX0_init_77 : decode cX0_init 77 = .ok (.invokespecial 19, 3) := dk_183 0 19 (dk_at dksX0_init_3 8 rfl rfl)
theorem dX0_init_80 : decode cX0_init 80 = .ok (.aastore, 1) := dk_83 (dk_at dksX0_init_3 11 rfl rfl)
theorem dX0_init_81 : decode cX0_init 81 = .ok (.iinc 1 1, 3) := dk_132 1 1 (dk_at dksX0_init_3 12 rfl rfl)
theorem dX0_init_84 : decode cX0_init 84 = .ok (.goto (-22), 3) := dk_167 255 234 (dk_at dksX0_init_3 15 rfl rfl)
theorem dX0_init_87 : decode cX0_init 87 = .ok (.aload_n 0, 1) := dk_42 (dk_at dksX0_init_3 18 rfl rfl)
theorem dX0_init_88 : decode cX0_init 88 = .ok (.bipush 64, 2) := dk_16 64 (dk_at dksX0_init_3 19 rfl rfl)
theorem dX0_init_90 : decode cX0_init 90 = .ok (.bipush 64, 2) := dk_16 64 (dk_at dksX0_init_3 21 rfl rfl)
theorem dX0_init_92 : decode cX0_init 92 = .ok (.multianewarray 34 2, 4) := by decide +kernel
theorem dX0_init_96 : decode cX0_init 96 = .ok (.putfield 36, 3) := dk_181 0 36 (dk_at dksX0_init_4 4 rfl rfl)
theorem dX0_init_99 : decode cX0_init 99 = .ok (.aload_n 0, 1) := dk_42 (dk_at dksX0_init_4 7 rfl rfl)
theorem dX0_init_100 : decode cX0_init 100 = .ok (.bipush 12, 2) := dk_16 12 (dk_at dksX0_init_4 8 rfl rfl)
theorem dX0_init_102 : decode cX0_init 102 = .ok (.newarray .int, 2) := dk_188_10 (dk_at dksX0_init_4 10 rfl rfl)
theorem dX0_init_104 : decode cX0_init 104 = .ok (.putfield 39, 3) := dk_181 0 39 (dk_at dksX0_init_4 12 rfl rfl)
theorem dX0_init_107 : decode cX0_init 107 = .ok (.return_, 1) := dk_177 (dk_at dksX0_init_4 15 rfl rfl)
abbrev cX0_feed : ByteArray := prog_1_method_3_code
def yX0_feed : MethodName := ⟨RX0, "feed", "(IIIII)I"⟩
def dkwX0_feed_2 : List UInt8 := [172]
abbrev dktX0_feed_2 : List UInt8 := dkwX0_feed_2 ++ []
def dkwX0_feed_1 : List UInt8 := [182, 0, 46, 42, 29, 182, 0, 46, 42, 21, 4, 182, 0, 46, 42, 21, 5, 182, 0, 46, 42, 180, 0, 43]
abbrev dktX0_feed_1 : List UInt8 := dkwX0_feed_1 ++ dktX0_feed_2
def dkwX0_feed_0 : List UInt8 := [42, 180, 0, 43, 16, 20, 96, 17, 1, 144, 164, 0, 5, 2, 172, 42, 27, 182, 0, 46, 42, 28]
abbrev dktX0_feed_0 : List UInt8 := dkwX0_feed_0 ++ dktX0_feed_1
theorem dksX0_feed_0 : cX0_feed.data.toList.drop 0 = dktX0_feed_0 := by decide +kernel
theorem dksX0_feed_1 : cX0_feed.data.toList.drop 22 = dktX0_feed_1 := dk_seg dksX0_feed_0 22 rfl rfl
theorem dksX0_feed_2 : cX0_feed.data.toList.drop 46 = dktX0_feed_2 := dk_seg dksX0_feed_1 24 rfl rfl
theorem dX0_feed_0 : decode cX0_feed 0 = .ok (.aload_n 0, 1) := dk_42 (dk_at dksX0_feed_0 0 rfl rfl)
theorem dX0_feed_1 : decode cX0_feed 1 = .ok (.getfield 43, 3) := dk_180 0 43 (dk_at dksX0_feed_0 1 rfl rfl)
theorem dX0_feed_4 : decode cX0_feed 4 = .ok (.bipush 20, 2) := dk_16 20 (dk_at dksX0_feed_0 4 rfl rfl)
theorem dX0_feed_6 : decode cX0_feed 6 = .ok (.iadd, 1) := dk_96 (dk_at dksX0_feed_0 6 rfl rfl)
theorem dX0_feed_7 : decode cX0_feed 7 = .ok (.sipush 400, 3) := dk_17 1 144 (dk_at dksX0_feed_0 7 rfl rfl)
theorem dX0_feed_10 : decode cX0_feed 10 = .ok (.if_icmp .le 5, 3) := dk_164 0 5 (dk_at dksX0_feed_0 10 rfl rfl)
theorem dX0_feed_13 : decode cX0_feed 13 = .ok (.iconst (-1), 1) := dk_2 (dk_at dksX0_feed_0 13 rfl rfl)
theorem dX0_feed_14 : decode cX0_feed 14 = .ok (.ireturn, 1) := dk_172 (dk_at dksX0_feed_0 14 rfl rfl)
theorem dX0_feed_15 : decode cX0_feed 15 = .ok (.aload_n 0, 1) := dk_42 (dk_at dksX0_feed_0 15 rfl rfl)
theorem dX0_feed_16 : decode cX0_feed 16 = .ok (.iload_n 1, 1) := dk_27 (dk_at dksX0_feed_0 16 rfl rfl)
theorem dX0_feed_17 : decode cX0_feed 17 = .ok (.invokevirtual 46, 3) := dk_182 0 46 (dk_at dksX0_feed_0 17 rfl rfl)
theorem dX0_feed_20 : decode cX0_feed 20 = .ok (.aload_n 0, 1) := dk_42 (dk_at dksX0_feed_0 20 rfl rfl)
theorem dX0_feed_21 : decode cX0_feed 21 = .ok (.iload_n 2, 1) := dk_28 (dk_at dksX0_feed_0 21 rfl rfl)
theorem dX0_feed_22 : decode cX0_feed 22 = .ok (.invokevirtual 46, 3) := dk_182 0 46 (dk_at dksX0_feed_1 0 rfl rfl)
theorem dX0_feed_25 : decode cX0_feed 25 = .ok (.aload_n 0, 1) := dk_42 (dk_at dksX0_feed_1 3 rfl rfl)
theorem dX0_feed_26 : decode cX0_feed 26 = .ok (.iload_n 3, 1) := dk_29 (dk_at dksX0_feed_1 4 rfl rfl)
theorem dX0_feed_27 : decode cX0_feed 27 = .ok (.invokevirtual 46, 3) := dk_182 0 46 (dk_at dksX0_feed_1 5 rfl rfl)
theorem dX0_feed_30 : decode cX0_feed 30 = .ok (.aload_n 0, 1) := dk_42 (dk_at dksX0_feed_1 8 rfl rfl)
theorem dX0_feed_31 : decode cX0_feed 31 = .ok (.iload 4, 2) := dk_21 4 (dk_at dksX0_feed_1 9 rfl rfl)
theorem dX0_feed_33 : decode cX0_feed 33 = .ok (.invokevirtual 46, 3) := dk_182 0 46 (dk_at dksX0_feed_1 11 rfl rfl)
theorem dX0_feed_36 : decode cX0_feed 36 = .ok (.aload_n 0, 1) := dk_42 (dk_at dksX0_feed_1 14 rfl rfl)
theorem dX0_feed_37 : decode cX0_feed 37 = .ok (.iload 5, 2) := dk_21 5 (dk_at dksX0_feed_1 15 rfl rfl)
theorem dX0_feed_39 : decode cX0_feed 39 = .ok (.invokevirtual 46, 3) := dk_182 0 46 (dk_at dksX0_feed_1 17 rfl rfl)
theorem dX0_feed_42 : decode cX0_feed 42 = .ok (.aload_n 0, 1) := dk_42 (dk_at dksX0_feed_1 20 rfl rfl)
theorem dX0_feed_43 : decode cX0_feed 43 = .ok (.getfield 43, 3) := dk_180 0 43 (dk_at dksX0_feed_1 21 rfl rfl)
theorem dX0_feed_46 : decode cX0_feed 46 = .ok (.ireturn, 1) := dk_172 (dk_at dksX0_feed_2 0 rfl rfl)
abbrev cX0_word : ByteArray := prog_1_method_4_code
def yX0_word : MethodName := ⟨RX0, "word", "(I)V"⟩
def dkwX0_word_1 : List UInt8 := [180, 0, 43, 4, 96, 181, 0, 43, 132, 2, 248, 167, 255, 226, 177]
abbrev dktX0_word_1 : List UInt8 := dkwX0_word_1 ++ []
def dkwX0_word_0 : List UInt8 := [16, 24, 61, 28, 155, 0, 32, 42, 180, 0, 9, 42, 180, 0, 43, 27, 28, 122, 145, 84, 42, 89]
abbrev dktX0_word_0 : List UInt8 := dkwX0_word_0 ++ dktX0_word_1
theorem dksX0_word_0 : cX0_word.data.toList.drop 0 = dktX0_word_0 := by decide +kernel
theorem dksX0_word_1 : cX0_word.data.toList.drop 22 = dktX0_word_1 := dk_seg dksX0_word_0 22 rfl rfl
theorem dX0_word_0 : decode cX0_word 0 = .ok (.bipush 24, 2) := dk_16 24 (dk_at dksX0_word_0 0 rfl rfl)
theorem dX0_word_2 : decode cX0_word 2 = .ok (.istore_n 2, 1) := dk_61 (dk_at dksX0_word_0 2 rfl rfl)
theorem dX0_word_3 : decode cX0_word 3 = .ok (.iload_n 2, 1) := dk_28 (dk_at dksX0_word_0 3 rfl rfl)
theorem dX0_word_4 : decode cX0_word 4 = .ok (.ifCond .lt 32, 3) := dk_155 0 32 (dk_at dksX0_word_0 4 rfl rfl)
theorem dX0_word_7 : decode cX0_word 7 = .ok (.aload_n 0, 1) := dk_42 (dk_at dksX0_word_0 7 rfl rfl)
theorem dX0_word_8 : decode cX0_word 8 = .ok (.getfield 9, 3) := dk_180 0 9 (dk_at dksX0_word_0 8 rfl rfl)
theorem dX0_word_11 : decode cX0_word 11 = .ok (.aload_n 0, 1) := dk_42 (dk_at dksX0_word_0 11 rfl rfl)
theorem dX0_word_12 : decode cX0_word 12 = .ok (.getfield 43, 3) := dk_180 0 43 (dk_at dksX0_word_0 12 rfl rfl)
theorem dX0_word_15 : decode cX0_word 15 = .ok (.iload_n 1, 1) := dk_27 (dk_at dksX0_word_0 15 rfl rfl)
theorem dX0_word_16 : decode cX0_word 16 = .ok (.iload_n 2, 1) := dk_28 (dk_at dksX0_word_0 16 rfl rfl)
theorem dX0_word_17 : decode cX0_word 17 = .ok (.ishr, 1) := dk_122 (dk_at dksX0_word_0 17 rfl rfl)
theorem dX0_word_18 : decode cX0_word 18 = .ok (.i2b, 1) := dk_145 (dk_at dksX0_word_0 18 rfl rfl)
theorem dX0_word_19 : decode cX0_word 19 = .ok (.bastore, 1) := dk_84 (dk_at dksX0_word_0 19 rfl rfl)
theorem dX0_word_20 : decode cX0_word 20 = .ok (.aload_n 0, 1) := dk_42 (dk_at dksX0_word_0 20 rfl rfl)
theorem dX0_word_21 : decode cX0_word 21 = .ok (.dup, 1) := dk_89 (dk_at dksX0_word_0 21 rfl rfl)
theorem dX0_word_22 : decode cX0_word 22 = .ok (.getfield 43, 3) := dk_180 0 43 (dk_at dksX0_word_1 0 rfl rfl)
theorem dX0_word_25 : decode cX0_word 25 = .ok (.iconst 1, 1) := dk_4 (dk_at dksX0_word_1 3 rfl rfl)
theorem dX0_word_26 : decode cX0_word 26 = .ok (.iadd, 1) := dk_96 (dk_at dksX0_word_1 4 rfl rfl)
theorem dX0_word_27 : decode cX0_word 27 = .ok (.putfield 43, 3) := dk_181 0 43 (dk_at dksX0_word_1 5 rfl rfl)
theorem dX0_word_30 : decode cX0_word 30 = .ok (.iinc 2 (-8), 3) := dk_132 2 248 (dk_at dksX0_word_1 8 rfl rfl)
theorem dX0_word_33 : decode cX0_word 33 = .ok (.goto (-30), 3) := dk_167 255 226 (dk_at dksX0_word_1 11 rfl rfl)
theorem dX0_word_36 : decode cX0_word 36 = .ok (.return_, 1) := dk_177 (dk_at dksX0_word_1 14 rfl rfl)
abbrev cX0_end : ByteArray := prog_1_method_5_code
def yX0_end : MethodName := ⟨RX0, "end", "(I)Z"⟩
def dkwX0_end_0 : List UInt8 := [27, 3, 42, 180, 0, 43, 184, 0, 50, 154, 0, 5, 3, 172, 42, 27, 181, 0, 43, 4, 172]
abbrev dktX0_end_0 : List UInt8 := dkwX0_end_0 ++ []
theorem dksX0_end_0 : cX0_end.data.toList.drop 0 = dktX0_end_0 := by decide +kernel
theorem dX0_end_0 : decode cX0_end 0 = .ok (.iload_n 1, 1) := dk_27 (dk_at dksX0_end_0 0 rfl rfl)
theorem dX0_end_1 : decode cX0_end 1 = .ok (.iconst 0, 1) := dk_3 (dk_at dksX0_end_0 1 rfl rfl)
theorem dX0_end_2 : decode cX0_end 2 = .ok (.aload_n 0, 1) := dk_42 (dk_at dksX0_end_0 2 rfl rfl)
theorem dX0_end_3 : decode cX0_end 3 = .ok (.getfield 43, 3) := dk_180 0 43 (dk_at dksX0_end_0 3 rfl rfl)
theorem dX0_end_6 : decode cX0_end 6 = .ok (.invokestatic 50, 3) := dk_184 0 50 (dk_at dksX0_end_0 6 rfl rfl)
theorem dX0_end_9 : decode cX0_end 9 = .ok (.ifCond .ne 5, 3) := dk_154 0 5 (dk_at dksX0_end_0 9 rfl rfl)
theorem dX0_end_12 : decode cX0_end 12 = .ok (.iconst 0, 1) := dk_3 (dk_at dksX0_end_0 12 rfl rfl)
theorem dX0_end_13 : decode cX0_end 13 = .ok (.ireturn, 1) := dk_172 (dk_at dksX0_end_0 13 rfl rfl)
theorem dX0_end_14 : decode cX0_end 14 = .ok (.aload_n 0, 1) := dk_42 (dk_at dksX0_end_0 14 rfl rfl)
theorem dX0_end_15 : decode cX0_end 15 = .ok (.iload_n 1, 1) := dk_27 (dk_at dksX0_end_0 15 rfl rfl)
theorem dX0_end_16 : decode cX0_end 16 = .ok (.putfield 43, 3) := dk_181 0 43 (dk_at dksX0_end_0 16 rfl rfl)
theorem dX0_end_19 : decode cX0_end 19 = .ok (.iconst 1, 1) := dk_4 (dk_at dksX0_end_0 19 rfl rfl)
theorem dX0_end_20 : decode cX0_end 20 = .ok (.ireturn, 1) := dk_172 (dk_at dksX0_end_0 20 rfl rfl)
abbrev cX0_isIn : ByteArray := prog_1_method_2_code
def yX0_isIn : MethodName := ⟨RX0, "isIn", "(III)Z"⟩
def dkwX0_isIn_0 : List UInt8 := [26, 27, 161, 0, 12, 26, 28, 163, 0, 7, 4, 167, 0, 4, 3, 172]
abbrev dktX0_isIn_0 : List UInt8 := dkwX0_isIn_0 ++ []
theorem dksX0_isIn_0 : cX0_isIn.data.toList.drop 0 = dktX0_isIn_0 := by decide +kernel
theorem dX0_isIn_0 : decode cX0_isIn 0 = .ok (.iload_n 0, 1) := dk_26 (dk_at dksX0_isIn_0 0 rfl rfl)
theorem dX0_isIn_1 : decode cX0_isIn 1 = .ok (.iload_n 1, 1) := dk_27 (dk_at dksX0_isIn_0 1 rfl rfl)
theorem dX0_isIn_2 : decode cX0_isIn 2 = .ok (.if_icmp .lt 12, 3) := dk_161 0 12 (dk_at dksX0_isIn_0 2 rfl rfl)
theorem dX0_isIn_5 : decode cX0_isIn 5 = .ok (.iload_n 0, 1) := dk_26 (dk_at dksX0_isIn_0 5 rfl rfl)
theorem dX0_isIn_6 : decode cX0_isIn 6 = .ok (.iload_n 2, 1) := dk_28 (dk_at dksX0_isIn_0 6 rfl rfl)
theorem dX0_isIn_7 : decode cX0_isIn 7 = .ok (.if_icmp .gt 7, 3) := dk_163 0 7 (dk_at dksX0_isIn_0 7 rfl rfl)
theorem dX0_isIn_10 : decode cX0_isIn 10 = .ok (.iconst 1, 1) := dk_4 (dk_at dksX0_isIn_0 10 rfl rfl)
theorem dX0_isIn_11 : decode cX0_isIn 11 = .ok (.goto 4, 3) := dk_167 0 4 (dk_at dksX0_isIn_0 11 rfl rfl)
theorem dX0_isIn_14 : decode cX0_isIn 14 = .ok (.iconst 0, 1) := dk_3 (dk_at dksX0_isIn_0 14 rfl rfl)
theorem dX0_isIn_15 : decode cX0_isIn 15 = .ok (.ireturn, 1) := dk_172 (dk_at dksX0_isIn_0 15 rfl rfl)
abbrev cX0_text : ByteArray := prog_1_method_6_code
def yX0_text : MethodName := ⟨RX0, "text", "()I"⟩
def dkwX0_text_3 : List UInt8 := [28, 172, 78, 42, 3, 181, 0, 43, 45, 191]
abbrev dktX0_text_3 : List UInt8 := dkwX0_text_3 ++ []
def dkwX0_text_2 : List UInt8 := [76, 42, 43, 180, 0, 78, 181, 0, 54, 42, 43, 180, 0, 81, 181, 0, 13, 2, 61, 42, 3, 181, 0, 43]
abbrev dktX0_text_2 : List UInt8 := dkwX0_text_2 ++ dktX0_text_3
def dkwX0_text_1 : List UInt8 := [182, 0, 62, 181, 0, 66, 42, 180, 0, 20, 180, 0, 66, 182, 0, 70, 60, 42, 3, 181, 0, 43, 27, 172]
abbrev dktX0_text_1 : List UInt8 := dkwX0_text_1 ++ dktX0_text_2
def dkwX0_text_0 : List UInt8 := [42, 3, 181, 0, 54, 42, 2, 181, 0, 13, 42, 180, 0, 20, 187, 0, 57, 89, 42, 183, 0, 59]
abbrev dktX0_text_0 : List UInt8 := dkwX0_text_0 ++ dktX0_text_1
theorem dksX0_text_0 : cX0_text.data.toList.drop 0 = dktX0_text_0 := by decide +kernel
theorem dksX0_text_1 : cX0_text.data.toList.drop 22 = dktX0_text_1 := dk_seg dksX0_text_0 22 rfl rfl
theorem dksX0_text_2 : cX0_text.data.toList.drop 46 = dktX0_text_2 := dk_seg dksX0_text_1 24 rfl rfl
theorem dksX0_text_3 : cX0_text.data.toList.drop 70 = dktX0_text_3 := dk_seg dksX0_text_2 24 rfl rfl
theorem dX0_text_0 : decode cX0_text 0 = .ok (.aload_n 0, 1) := dk_42 (dk_at dksX0_text_0 0 rfl rfl)
theorem dX0_text_1 : decode cX0_text 1 = .ok (.iconst 0, 1) := dk_3 (dk_at dksX0_text_0 1 rfl rfl)
theorem dX0_text_2 : decode cX0_text 2 = .ok (.putfield 54, 3) := dk_181 0 54 (dk_at dksX0_text_0 2 rfl rfl)
theorem dX0_text_5 : decode cX0_text 5 = .ok (.aload_n 0, 1) := dk_42 (dk_at dksX0_text_0 5 rfl rfl)
theorem dX0_text_6 : decode cX0_text 6 = .ok (.iconst (-1), 1) := dk_2 (dk_at dksX0_text_0 6 rfl rfl)
theorem dX0_text_7 : decode cX0_text 7 = .ok (.putfield 13, 3) := dk_181 0 13 (dk_at dksX0_text_0 7 rfl rfl)
theorem dX0_text_10 : decode cX0_text 10 = .ok (.aload_n 0, 1) := dk_42 (dk_at dksX0_text_0 10 rfl rfl)
theorem dX0_text_11 : decode cX0_text 11 = .ok (.getfield 20, 3) := dk_180 0 20 (dk_at dksX0_text_0 11 rfl rfl)
theorem dX0_text_14 : decode cX0_text 14 = .ok (.new 57, 3) := dk_187 0 57 (dk_at dksX0_text_0 14 rfl rfl)
theorem dX0_text_17 : decode cX0_text 17 = .ok (.dup, 1) := dk_89 (dk_at dksX0_text_0 17 rfl rfl)
theorem dX0_text_18 : decode cX0_text 18 = .ok (.aload_n 0, 1) := dk_42 (dk_at dksX0_text_0 18 rfl rfl)
theorem dX0_text_19 : decode cX0_text 19 = .ok (.invokespecial 59, 3) := dk_183 0 59 (dk_at dksX0_text_0 19 rfl rfl)
theorem dX0_text_22 : decode cX0_text 22 = .ok (.invokevirtual 62, 3) := dk_182 0 62 (dk_at dksX0_text_1 0 rfl rfl)
theorem dX0_text_25 : decode cX0_text 25 = .ok (.putfield 66, 3) := dk_181 0 66 (dk_at dksX0_text_1 3 rfl rfl)
theorem dX0_text_28 : decode cX0_text 28 = .ok (.aload_n 0, 1) := dk_42 (dk_at dksX0_text_1 6 rfl rfl)
theorem dX0_text_29 : decode cX0_text 29 = .ok (.getfield 20, 3) := dk_180 0 20 (dk_at dksX0_text_1 7 rfl rfl)
theorem dX0_text_32 : decode cX0_text 32 = .ok (.getfield 66, 3) := dk_180 0 66 (dk_at dksX0_text_1 10 rfl rfl)
theorem dX0_text_35 : decode cX0_text 35 = .ok (.invokevirtual 70, 3) := dk_182 0 70 (dk_at dksX0_text_1 13 rfl rfl)
theorem dX0_text_38 : decode cX0_text 38 = .ok (.istore_n 1, 1) := dk_60 (dk_at dksX0_text_1 16 rfl rfl)
theorem dX0_text_39 : decode cX0_text 39 = .ok (.aload_n 0, 1) := dk_42 (dk_at dksX0_text_1 17 rfl rfl)
theorem dX0_text_40 : decode cX0_text 40 = .ok (.iconst 0, 1) := dk_3 (dk_at dksX0_text_1 18 rfl rfl)
theorem dX0_text_41 : decode cX0_text 41 = .ok (.putfield 43, 3) := dk_181 0 43 (dk_at dksX0_text_1 19 rfl rfl)
theorem dX0_text_44 : decode cX0_text 44 = .ok (.iload_n 1, 1) := dk_27 (dk_at dksX0_text_1 22 rfl rfl)
theorem dX0_text_45 : decode cX0_text 45 = .ok (.ireturn, 1) := dk_172 (dk_at dksX0_text_1 23 rfl rfl)
theorem dX0_text_46 : decode cX0_text 46 = .ok (.astore_n 1, 1) := dk_76 (dk_at dksX0_text_2 0 rfl rfl)
theorem dX0_text_47 : decode cX0_text 47 = .ok (.aload_n 0, 1) := dk_42 (dk_at dksX0_text_2 1 rfl rfl)
theorem dX0_text_48 : decode cX0_text 48 = .ok (.aload_n 1, 1) := dk_43 (dk_at dksX0_text_2 2 rfl rfl)
theorem dX0_text_49 : decode cX0_text 49 = .ok (.getfield 78, 3) := dk_180 0 78 (dk_at dksX0_text_2 3 rfl rfl)
theorem dX0_text_52 : decode cX0_text 52 = .ok (.putfield 54, 3) := dk_181 0 54 (dk_at dksX0_text_2 6 rfl rfl)
theorem dX0_text_55 : decode cX0_text 55 = .ok (.aload_n 0, 1) := dk_42 (dk_at dksX0_text_2 9 rfl rfl)
theorem dX0_text_56 : decode cX0_text 56 = .ok (.aload_n 1, 1) := dk_43 (dk_at dksX0_text_2 10 rfl rfl)
theorem dX0_text_57 : decode cX0_text 57 = .ok (.getfield 81, 3) := dk_180 0 81 (dk_at dksX0_text_2 11 rfl rfl)
theorem dX0_text_60 : decode cX0_text 60 = .ok (.putfield 13, 3) := dk_181 0 13 (dk_at dksX0_text_2 14 rfl rfl)
theorem dX0_text_63 : decode cX0_text 63 = .ok (.iconst (-1), 1) := dk_2 (dk_at dksX0_text_2 17 rfl rfl)
theorem dX0_text_64 : decode cX0_text 64 = .ok (.istore_n 2, 1) := dk_61 (dk_at dksX0_text_2 18 rfl rfl)
theorem dX0_text_65 : decode cX0_text 65 = .ok (.aload_n 0, 1) := dk_42 (dk_at dksX0_text_2 19 rfl rfl)
theorem dX0_text_66 : decode cX0_text 66 = .ok (.iconst 0, 1) := dk_3 (dk_at dksX0_text_2 20 rfl rfl)
theorem dX0_text_67 : decode cX0_text 67 = .ok (.putfield 43, 3) := dk_181 0 43 (dk_at dksX0_text_2 21 rfl rfl)
theorem dX0_text_70 : decode cX0_text 70 = .ok (.iload_n 2, 1) := dk_28 (dk_at dksX0_text_3 0 rfl rfl)
theorem dX0_text_71 : decode cX0_text 71 = .ok (.ireturn, 1) := dk_172 (dk_at dksX0_text_3 1 rfl rfl)
theorem dX0_text_72 : decode cX0_text 72 = .ok (.astore_n 3, 1) := dk_78 (dk_at dksX0_text_3 2 rfl rfl)
theorem dX0_text_73 : decode cX0_text 73 = .ok (.aload_n 0, 1) := dk_42 (dk_at dksX0_text_3 3 rfl rfl)
theorem dX0_text_74 : decode cX0_text 74 = .ok (.iconst 0, 1) := dk_3 (dk_at dksX0_text_3 4 rfl rfl)
theorem dX0_text_75 : decode cX0_text 75 = .ok (.putfield 43, 3) := dk_181 0 43 (dk_at dksX0_text_3 5 rfl rfl)
theorem dX0_text_78 : decode cX0_text 78 = .ok (.aload_n 3, 1) := dk_45 (dk_at dksX0_text_3 8 rfl rfl)
theorem dX0_text_79 : decode cX0_text 79 = .ok (.athrow, 1) := dk_191 (dk_at dksX0_text_3 9 rfl rfl)
abbrev cX0_fault : ByteArray := prog_1_method_7_code
def yX0_fault : MethodName := ⟨RX0, "fault", "(I)I"⟩
def dkwX0_fault_1 : List UInt8 := [172]
abbrev dktX0_fault_1 : List UInt8 := dkwX0_fault_1 ++ []
def dkwX0_fault_0 : List UInt8 := [27, 154, 0, 10, 42, 180, 0, 54, 167, 0, 16, 27, 4, 160, 0, 10, 42, 180, 0, 13, 167, 0, 4, 2]
abbrev dktX0_fault_0 : List UInt8 := dkwX0_fault_0 ++ dktX0_fault_1
theorem dksX0_fault_0 : cX0_fault.data.toList.drop 0 = dktX0_fault_0 := by decide +kernel
theorem dksX0_fault_1 : cX0_fault.data.toList.drop 24 = dktX0_fault_1 := dk_seg dksX0_fault_0 24 rfl rfl
theorem dX0_fault_0 : decode cX0_fault 0 = .ok (.iload_n 1, 1) := dk_27 (dk_at dksX0_fault_0 0 rfl rfl)
theorem dX0_fault_1 : decode cX0_fault 1 = .ok (.ifCond .ne 10, 3) := dk_154 0 10 (dk_at dksX0_fault_0 1 rfl rfl)
theorem dX0_fault_4 : decode cX0_fault 4 = .ok (.aload_n 0, 1) := dk_42 (dk_at dksX0_fault_0 4 rfl rfl)
theorem dX0_fault_5 : decode cX0_fault 5 = .ok (.getfield 54, 3) := dk_180 0 54 (dk_at dksX0_fault_0 5 rfl rfl)
theorem dX0_fault_8 : decode cX0_fault 8 = .ok (.goto 16, 3) := dk_167 0 16 (dk_at dksX0_fault_0 8 rfl rfl)
theorem dX0_fault_11 : decode cX0_fault 11 = .ok (.iload_n 1, 1) := dk_27 (dk_at dksX0_fault_0 11 rfl rfl)
theorem dX0_fault_12 : decode cX0_fault 12 = .ok (.iconst 1, 1) := dk_4 (dk_at dksX0_fault_0 12 rfl rfl)
theorem dX0_fault_13 : decode cX0_fault 13 = .ok (.if_icmp .ne 10, 3) := dk_160 0 10 (dk_at dksX0_fault_0 13 rfl rfl)
theorem dX0_fault_16 : decode cX0_fault 16 = .ok (.aload_n 0, 1) := dk_42 (dk_at dksX0_fault_0 16 rfl rfl)
theorem dX0_fault_17 : decode cX0_fault 17 = .ok (.getfield 13, 3) := dk_180 0 13 (dk_at dksX0_fault_0 17 rfl rfl)
theorem dX0_fault_20 : decode cX0_fault 20 = .ok (.goto 4, 3) := dk_167 0 4 (dk_at dksX0_fault_0 20 rfl rfl)
theorem dX0_fault_23 : decode cX0_fault 23 = .ok (.iconst (-1), 1) := dk_2 (dk_at dksX0_fault_0 23 rfl rfl)
theorem dX0_fault_24 : decode cX0_fault 24 = .ok (.ireturn, 1) := dk_172 (dk_at dksX0_fault_1 0 rfl rfl)
abbrev cX0_undo : ByteArray := prog_1_method_11_code
def yX0_undo : MethodName := ⟨RX0, "undo", "()Z"⟩
def dkwX0_undo_1 : List UInt8 := [180, 0, 30, 42, 180, 0, 90, 50, 182, 0, 96, 4, 172]
abbrev dktX0_undo_1 : List UInt8 := dkwX0_undo_1 ++ []
def dkwX0_undo_0 : List UInt8 := [42, 180, 0, 90, 154, 0, 5, 3, 172, 42, 89, 180, 0, 90, 4, 100, 181, 0, 90, 42, 180, 0, 20, 42]
abbrev dktX0_undo_0 : List UInt8 := dkwX0_undo_0 ++ dktX0_undo_1
theorem dksX0_undo_0 : cX0_undo.data.toList.drop 0 = dktX0_undo_0 := by decide +kernel
theorem dksX0_undo_1 : cX0_undo.data.toList.drop 24 = dktX0_undo_1 := dk_seg dksX0_undo_0 24 rfl rfl
theorem dX0_undo_0 : decode cX0_undo 0 = .ok (.aload_n 0, 1) := dk_42 (dk_at dksX0_undo_0 0 rfl rfl)
theorem dX0_undo_1 : decode cX0_undo 1 = .ok (.getfield 90, 3) := dk_180 0 90 (dk_at dksX0_undo_0 1 rfl rfl)
theorem dX0_undo_4 : decode cX0_undo 4 = .ok (.ifCond .ne 5, 3) := dk_154 0 5 (dk_at dksX0_undo_0 4 rfl rfl)
theorem dX0_undo_7 : decode cX0_undo 7 = .ok (.iconst 0, 1) := dk_3 (dk_at dksX0_undo_0 7 rfl rfl)
theorem dX0_undo_8 : decode cX0_undo 8 = .ok (.ireturn, 1) := dk_172 (dk_at dksX0_undo_0 8 rfl rfl)
theorem dX0_undo_9 : decode cX0_undo 9 = .ok (.aload_n 0, 1) := dk_42 (dk_at dksX0_undo_0 9 rfl rfl)
theorem dX0_undo_10 : decode cX0_undo 10 = .ok (.dup, 1) := dk_89 (dk_at dksX0_undo_0 10 rfl rfl)
theorem dX0_undo_11 : decode cX0_undo 11 = .ok (.getfield 90, 3) := dk_180 0 90 (dk_at dksX0_undo_0 11 rfl rfl)
theorem dX0_undo_14 : decode cX0_undo 14 = .ok (.iconst 1, 1) := dk_4 (dk_at dksX0_undo_0 14 rfl rfl)
theorem dX0_undo_15 : decode cX0_undo 15 = .ok (.isub, 1) := dk_100 (dk_at dksX0_undo_0 15 rfl rfl)
theorem dX0_undo_16 : decode cX0_undo 16 = .ok (.putfield 90, 3) := dk_181 0 90 (dk_at dksX0_undo_0 16 rfl rfl)
theorem dX0_undo_19 : decode cX0_undo 19 = .ok (.aload_n 0, 1) := dk_42 (dk_at dksX0_undo_0 19 rfl rfl)
theorem dX0_undo_20 : decode cX0_undo 20 = .ok (.getfield 20, 3) := dk_180 0 20 (dk_at dksX0_undo_0 20 rfl rfl)
theorem dX0_undo_23 : decode cX0_undo 23 = .ok (.aload_n 0, 1) := dk_42 (dk_at dksX0_undo_0 23 rfl rfl)
theorem dX0_undo_24 : decode cX0_undo 24 = .ok (.getfield 30, 3) := dk_180 0 30 (dk_at dksX0_undo_1 0 rfl rfl)
theorem dX0_undo_27 : decode cX0_undo 27 = .ok (.aload_n 0, 1) := dk_42 (dk_at dksX0_undo_1 3 rfl rfl)
theorem dX0_undo_28 : decode cX0_undo 28 = .ok (.getfield 90, 3) := dk_180 0 90 (dk_at dksX0_undo_1 4 rfl rfl)
theorem dX0_undo_31 : decode cX0_undo 31 = .ok (.aaload, 1) := dk_50 (dk_at dksX0_undo_1 7 rfl rfl)
theorem dX0_undo_32 : decode cX0_undo 32 = .ok (.invokevirtual 96, 3) := dk_182 0 96 (dk_at dksX0_undo_1 8 rfl rfl)
theorem dX0_undo_35 : decode cX0_undo 35 = .ok (.iconst 1, 1) := dk_4 (dk_at dksX0_undo_1 11 rfl rfl)
theorem dX0_undo_36 : decode cX0_undo 36 = .ok (.ireturn, 1) := dk_172 (dk_at dksX0_undo_1 12 rfl rfl)
abbrev cX0_state : ByteArray := prog_1_method_14_code
def yX0_state : MethodName := ⟨RX0, "state", "(I)I"⟩
def dkwX0_state_0 : List UInt8 := [42, 180, 0, 20, 180, 0, 103, 61, 42, 180, 0, 20, 27, 181, 0, 103, 28, 172]
abbrev dktX0_state_0 : List UInt8 := dkwX0_state_0 ++ []
theorem dksX0_state_0 : cX0_state.data.toList.drop 0 = dktX0_state_0 := by decide +kernel
theorem dX0_state_0 : decode cX0_state 0 = .ok (.aload_n 0, 1) := dk_42 (dk_at dksX0_state_0 0 rfl rfl)
theorem dX0_state_1 : decode cX0_state 1 = .ok (.getfield 20, 3) := dk_180 0 20 (dk_at dksX0_state_0 1 rfl rfl)
theorem dX0_state_4 : decode cX0_state 4 = .ok (.getfield 103, 3) := dk_180 0 103 (dk_at dksX0_state_0 4 rfl rfl)
theorem dX0_state_7 : decode cX0_state 7 = .ok (.istore_n 2, 1) := dk_61 (dk_at dksX0_state_0 7 rfl rfl)
theorem dX0_state_8 : decode cX0_state 8 = .ok (.aload_n 0, 1) := dk_42 (dk_at dksX0_state_0 8 rfl rfl)
theorem dX0_state_9 : decode cX0_state 9 = .ok (.getfield 20, 3) := dk_180 0 20 (dk_at dksX0_state_0 9 rfl rfl)
theorem dX0_state_12 : decode cX0_state 12 = .ok (.iload_n 1, 1) := dk_27 (dk_at dksX0_state_0 12 rfl rfl)
theorem dX0_state_13 : decode cX0_state 13 = .ok (.putfield 103, 3) := dk_181 0 103 (dk_at dksX0_state_0 13 rfl rfl)
theorem dX0_state_16 : decode cX0_state 16 = .ok (.iload_n 2, 1) := dk_28 (dk_at dksX0_state_0 16 rfl rfl)
theorem dX0_state_17 : decode cX0_state 17 = .ok (.ireturn, 1) := dk_172 (dk_at dksX0_state_0 17 rfl rfl)
abbrev cX0_wood : ByteArray := prog_1_method_15_code
def yX0_wood : MethodName := ⟨RX0, "wood", "(II)Z"⟩
def dkwX0_wood_1 : List UInt8 := [180, 0, 20, 27, 28, 182, 0, 106, 42, 182, 0, 110, 172]
abbrev dktX0_wood_1 : List UInt8 := dkwX0_wood_1 ++ []
def dkwX0_wood_0 : List UInt8 := [27, 6, 16, 8, 184, 0, 50, 153, 0, 13, 28, 6, 16, 8, 184, 0, 50, 154, 0, 5, 3, 172, 42]
abbrev dktX0_wood_0 : List UInt8 := dkwX0_wood_0 ++ dktX0_wood_1
theorem dksX0_wood_0 : cX0_wood.data.toList.drop 0 = dktX0_wood_0 := by decide +kernel
theorem dksX0_wood_1 : cX0_wood.data.toList.drop 23 = dktX0_wood_1 := dk_seg dksX0_wood_0 23 rfl rfl
theorem dX0_wood_0 : decode cX0_wood 0 = .ok (.iload_n 1, 1) := dk_27 (dk_at dksX0_wood_0 0 rfl rfl)
theorem dX0_wood_1 : decode cX0_wood 1 = .ok (.iconst 3, 1) := dk_6 (dk_at dksX0_wood_0 1 rfl rfl)
theorem dX0_wood_2 : decode cX0_wood 2 = .ok (.bipush 8, 2) := dk_16 8 (dk_at dksX0_wood_0 2 rfl rfl)
theorem dX0_wood_4 : decode cX0_wood 4 = .ok (.invokestatic 50, 3) := dk_184 0 50 (dk_at dksX0_wood_0 4 rfl rfl)
theorem dX0_wood_7 : decode cX0_wood 7 = .ok (.ifCond .eq 13, 3) := dk_153 0 13 (dk_at dksX0_wood_0 7 rfl rfl)
theorem dX0_wood_10 : decode cX0_wood 10 = .ok (.iload_n 2, 1) := dk_28 (dk_at dksX0_wood_0 10 rfl rfl)
theorem dX0_wood_11 : decode cX0_wood 11 = .ok (.iconst 3, 1) := dk_6 (dk_at dksX0_wood_0 11 rfl rfl)
theorem dX0_wood_12 : decode cX0_wood 12 = .ok (.bipush 8, 2) := dk_16 8 (dk_at dksX0_wood_0 12 rfl rfl)
theorem dX0_wood_14 : decode cX0_wood 14 = .ok (.invokestatic 50, 3) := dk_184 0 50 (dk_at dksX0_wood_0 14 rfl rfl)
theorem dX0_wood_17 : decode cX0_wood 17 = .ok (.ifCond .ne 5, 3) := dk_154 0 5 (dk_at dksX0_wood_0 17 rfl rfl)
theorem dX0_wood_20 : decode cX0_wood 20 = .ok (.iconst 0, 1) := dk_3 (dk_at dksX0_wood_0 20 rfl rfl)
theorem dX0_wood_21 : decode cX0_wood 21 = .ok (.ireturn, 1) := dk_172 (dk_at dksX0_wood_0 21 rfl rfl)
theorem dX0_wood_22 : decode cX0_wood 22 = .ok (.aload_n 0, 1) := dk_42 (dk_at dksX0_wood_0 22 rfl rfl)
theorem dX0_wood_23 : decode cX0_wood 23 = .ok (.getfield 20, 3) := dk_180 0 20 (dk_at dksX0_wood_1 0 rfl rfl)
theorem dX0_wood_26 : decode cX0_wood 26 = .ok (.iload_n 1, 1) := dk_27 (dk_at dksX0_wood_1 3 rfl rfl)
theorem dX0_wood_27 : decode cX0_wood 27 = .ok (.iload_n 2, 1) := dk_28 (dk_at dksX0_wood_1 4 rfl rfl)
theorem dX0_wood_28 : decode cX0_wood 28 = .ok (.invokevirtual 106, 3) := dk_182 0 106 (dk_at dksX0_wood_1 5 rfl rfl)
theorem dX0_wood_31 : decode cX0_wood 31 = .ok (.aload_n 0, 1) := dk_42 (dk_at dksX0_wood_1 8 rfl rfl)
theorem dX0_wood_32 : decode cX0_wood 32 = .ok (.invokevirtual 110, 3) := dk_182 0 110 (dk_at dksX0_wood_1 9 rfl rfl)
theorem dX0_wood_35 : decode cX0_wood 35 = .ok (.ireturn, 1) := dk_172 (dk_at dksX0_wood_1 12 rfl rfl)
abbrev cX0_forgets : ByteArray := prog_1_method_9_code
def yX0_forgets : MethodName := ⟨RX0, "forgets", "()Z"⟩
def dkwX0_forgets_0 : List UInt8 := [42, 3, 181, 0, 90, 4, 172]
abbrev dktX0_forgets_0 : List UInt8 := dkwX0_forgets_0 ++ []
theorem dksX0_forgets_0 : cX0_forgets.data.toList.drop 0 = dktX0_forgets_0 := by decide +kernel
theorem dX0_forgets_0 : decode cX0_forgets 0 = .ok (.aload_n 0, 1) := dk_42 (dk_at dksX0_forgets_0 0 rfl rfl)
theorem dX0_forgets_1 : decode cX0_forgets 1 = .ok (.iconst 0, 1) := dk_3 (dk_at dksX0_forgets_0 1 rfl rfl)
theorem dX0_forgets_2 : decode cX0_forgets 2 = .ok (.putfield 90, 3) := dk_181 0 90 (dk_at dksX0_forgets_0 2 rfl rfl)
theorem dX0_forgets_5 : decode cX0_forgets 5 = .ok (.iconst 1, 1) := dk_4 (dk_at dksX0_forgets_0 5 rfl rfl)
theorem dX0_forgets_6 : decode cX0_forgets 6 = .ok (.ireturn, 1) := dk_172 (dk_at dksX0_forgets_0 6 rfl rfl)
abbrev cX0_damp : ByteArray := prog_1_method_16_code
def yX0_damp : MethodName := ⟨RX0, "damp", "(II)Z"⟩
def dkwX0_damp_1 : List UInt8 := [180, 0, 20, 180, 0, 118, 27, 28, 79, 42, 182, 0, 110, 172]
abbrev dktX0_damp_1 : List UInt8 := dkwX0_damp_1 ++ []
def dkwX0_damp_0 : List UInt8 := [42, 180, 0, 20, 27, 182, 0, 114, 153, 0, 13, 28, 3, 16, 99, 184, 0, 50, 154, 0, 5, 3, 172, 42]
abbrev dktX0_damp_0 : List UInt8 := dkwX0_damp_0 ++ dktX0_damp_1
theorem dksX0_damp_0 : cX0_damp.data.toList.drop 0 = dktX0_damp_0 := by decide +kernel
theorem dksX0_damp_1 : cX0_damp.data.toList.drop 24 = dktX0_damp_1 := dk_seg dksX0_damp_0 24 rfl rfl
theorem dX0_damp_0 : decode cX0_damp 0 = .ok (.aload_n 0, 1) := dk_42 (dk_at dksX0_damp_0 0 rfl rfl)
theorem dX0_damp_1 : decode cX0_damp 1 = .ok (.getfield 20, 3) := dk_180 0 20 (dk_at dksX0_damp_0 1 rfl rfl)
theorem dX0_damp_4 : decode cX0_damp 4 = .ok (.iload_n 1, 1) := dk_27 (dk_at dksX0_damp_0 4 rfl rfl)
theorem dX0_damp_5 : decode cX0_damp 5 = .ok (.invokevirtual 114, 3) := dk_182 0 114 (dk_at dksX0_damp_0 5 rfl rfl)
theorem dX0_damp_8 : decode cX0_damp 8 = .ok (.ifCond .eq 13, 3) := dk_153 0 13 (dk_at dksX0_damp_0 8 rfl rfl)
theorem dX0_damp_11 : decode cX0_damp 11 = .ok (.iload_n 2, 1) := dk_28 (dk_at dksX0_damp_0 11 rfl rfl)
theorem dX0_damp_12 : decode cX0_damp 12 = .ok (.iconst 0, 1) := dk_3 (dk_at dksX0_damp_0 12 rfl rfl)
theorem dX0_damp_13 : decode cX0_damp 13 = .ok (.bipush 99, 2) := dk_16 99 (dk_at dksX0_damp_0 13 rfl rfl)
theorem dX0_damp_15 : decode cX0_damp 15 = .ok (.invokestatic 50, 3) := dk_184 0 50 (dk_at dksX0_damp_0 15 rfl rfl)
theorem dX0_damp_18 : decode cX0_damp 18 = .ok (.ifCond .ne 5, 3) := dk_154 0 5 (dk_at dksX0_damp_0 18 rfl rfl)
theorem dX0_damp_21 : decode cX0_damp 21 = .ok (.iconst 0, 1) := dk_3 (dk_at dksX0_damp_0 21 rfl rfl)
theorem dX0_damp_22 : decode cX0_damp 22 = .ok (.ireturn, 1) := dk_172 (dk_at dksX0_damp_0 22 rfl rfl)
theorem dX0_damp_23 : decode cX0_damp 23 = .ok (.aload_n 0, 1) := dk_42 (dk_at dksX0_damp_0 23 rfl rfl)
theorem dX0_damp_24 : decode cX0_damp 24 = .ok (.getfield 20, 3) := dk_180 0 20 (dk_at dksX0_damp_1 0 rfl rfl)
theorem dX0_damp_27 : decode cX0_damp 27 = .ok (.getfield 118, 3) := dk_180 0 118 (dk_at dksX0_damp_1 3 rfl rfl)
theorem dX0_damp_30 : decode cX0_damp 30 = .ok (.iload_n 1, 1) := dk_27 (dk_at dksX0_damp_1 6 rfl rfl)
theorem dX0_damp_31 : decode cX0_damp 31 = .ok (.iload_n 2, 1) := dk_28 (dk_at dksX0_damp_1 7 rfl rfl)
theorem dX0_damp_32 : decode cX0_damp 32 = .ok (.iastore, 1) := dk_79 (dk_at dksX0_damp_1 8 rfl rfl)
theorem dX0_damp_33 : decode cX0_damp 33 = .ok (.aload_n 0, 1) := dk_42 (dk_at dksX0_damp_1 9 rfl rfl)
theorem dX0_damp_34 : decode cX0_damp 34 = .ok (.invokevirtual 110, 3) := dk_182 0 110 (dk_at dksX0_damp_1 10 rfl rfl)
theorem dX0_damp_37 : decode cX0_damp 37 = .ok (.ireturn, 1) := dk_172 (dk_at dksX0_damp_1 13 rfl rfl)
abbrev cX0_word_2 : ByteArray := prog_1_method_17_code
def yX0_word_2 : MethodName := ⟨RX0, "word", "(III)I"⟩
def dkwX0_word_2_4 : List UInt8 := [182, 0, 110, 87, 21, 4, 172]
abbrev dktX0_word_2_4 : List UInt8 := dkwX0_word_2_4 ++ []
def dkwX0_word_2_3 : List UInt8 := [180, 0, 20, 180, 0, 127, 21, 4, 29, 79, 42, 180, 0, 20, 89, 180, 0, 100, 4, 96, 181, 0, 100, 42]
abbrev dktX0_word_2_3 : List UInt8 := dkwX0_word_2_3 ++ dktX0_word_2_4
def dkwX0_word_2_2 : List UInt8 := [172, 42, 180, 0, 20, 180, 0, 121, 21, 4, 27, 79, 42, 180, 0, 20, 180, 0, 124, 21, 4, 28, 79, 42]
abbrev dktX0_word_2_2 : List UInt8 := dkwX0_word_2_2 ++ dktX0_word_2_3
def dkwX0_word_2_1 : List UInt8 := [184, 0, 50, 153, 0, 20, 29, 2, 21, 4, 184, 0, 50, 153, 0, 10, 21, 4, 16, 12, 160, 0, 5, 2]
abbrev dktX0_word_2_1 : List UInt8 := dkwX0_word_2_1 ++ dktX0_word_2_2
def dkwX0_word_2_0 : List UInt8 := [42, 180, 0, 20, 180, 0, 100, 54, 4, 27, 3, 16, 99, 184, 0, 50, 153, 0, 30, 28, 3, 16, 9]
abbrev dktX0_word_2_0 : List UInt8 := dkwX0_word_2_0 ++ dktX0_word_2_1
theorem dksX0_word_2_0 : cX0_word_2.data.toList.drop 0 = dktX0_word_2_0 := by decide +kernel
theorem dksX0_word_2_1 : cX0_word_2.data.toList.drop 23 = dktX0_word_2_1 := dk_seg dksX0_word_2_0 23 rfl rfl
theorem dksX0_word_2_2 : cX0_word_2.data.toList.drop 47 = dktX0_word_2_2 := dk_seg dksX0_word_2_1 24 rfl rfl
theorem dksX0_word_2_3 : cX0_word_2.data.toList.drop 71 = dktX0_word_2_3 := dk_seg dksX0_word_2_2 24 rfl rfl
theorem dksX0_word_2_4 : cX0_word_2.data.toList.drop 95 = dktX0_word_2_4 := dk_seg dksX0_word_2_3 24 rfl rfl
theorem dX0_word_2_0 : decode cX0_word_2 0 = .ok (.aload_n 0, 1) := dk_42 (dk_at dksX0_word_2_0 0 rfl rfl)
theorem dX0_word_2_1 : decode cX0_word_2 1 = .ok (.getfield 20, 3) := dk_180 0 20 (dk_at dksX0_word_2_0 1 rfl rfl)
theorem dX0_word_2_4 : decode cX0_word_2 4 = .ok (.getfield 100, 3) := dk_180 0 100 (dk_at dksX0_word_2_0 4 rfl rfl)
theorem dX0_word_2_7 : decode cX0_word_2 7 = .ok (.istore 4, 2) := dk_54 4 (dk_at dksX0_word_2_0 7 rfl rfl)
theorem dX0_word_2_9 : decode cX0_word_2 9 = .ok (.iload_n 1, 1) := dk_27 (dk_at dksX0_word_2_0 9 rfl rfl)
theorem dX0_word_2_10 : decode cX0_word_2 10 = .ok (.iconst 0, 1) := dk_3 (dk_at dksX0_word_2_0 10 rfl rfl)
theorem dX0_word_2_11 : decode cX0_word_2 11 = .ok (.bipush 99, 2) := dk_16 99 (dk_at dksX0_word_2_0 11 rfl rfl)
theorem dX0_word_2_13 : decode cX0_word_2 13 = .ok (.invokestatic 50, 3) := dk_184 0 50 (dk_at dksX0_word_2_0 13 rfl rfl)
theorem dX0_word_2_16 : decode cX0_word_2 16 = .ok (.ifCond .eq 30, 3) := dk_153 0 30 (dk_at dksX0_word_2_0 16 rfl rfl)
theorem dX0_word_2_19 : decode cX0_word_2 19 = .ok (.iload_n 2, 1) := dk_28 (dk_at dksX0_word_2_0 19 rfl rfl)
theorem dX0_word_2_20 : decode cX0_word_2 20 = .ok (.iconst 0, 1) := dk_3 (dk_at dksX0_word_2_0 20 rfl rfl)
theorem dX0_word_2_21 : decode cX0_word_2 21 = .ok (.bipush 9, 2) := dk_16 9 (dk_at dksX0_word_2_0 21 rfl rfl)
theorem dX0_word_2_23 : decode cX0_word_2 23 = .ok (.invokestatic 50, 3) := dk_184 0 50 (dk_at dksX0_word_2_1 0 rfl rfl)
theorem dX0_word_2_26 : decode cX0_word_2 26 = .ok (.ifCond .eq 20, 3) := dk_153 0 20 (dk_at dksX0_word_2_1 3 rfl rfl)
theorem dX0_word_2_29 : decode cX0_word_2 29 = .ok (.iload_n 3, 1) := dk_29 (dk_at dksX0_word_2_1 6 rfl rfl)
theorem dX0_word_2_30 : decode cX0_word_2 30 = .ok (.iconst (-1), 1) := dk_2 (dk_at dksX0_word_2_1 7 rfl rfl)
theorem dX0_word_2_31 : decode cX0_word_2 31 = .ok (.iload 4, 2) := dk_21 4 (dk_at dksX0_word_2_1 8 rfl rfl)
theorem dX0_word_2_33 : decode cX0_word_2 33 = .ok (.invokestatic 50, 3) := dk_184 0 50 (dk_at dksX0_word_2_1 10 rfl rfl)
theorem dX0_word_2_36 : decode cX0_word_2 36 = .ok (.ifCond .eq 10, 3) := dk_153 0 10 (dk_at dksX0_word_2_1 13 rfl rfl)
theorem dX0_word_2_39 : decode cX0_word_2 39 = .ok (.iload 4, 2) := dk_21 4 (dk_at dksX0_word_2_1 16 rfl rfl)
theorem dX0_word_2_41 : decode cX0_word_2 41 = .ok (.bipush 12, 2) := dk_16 12 (dk_at dksX0_word_2_1 18 rfl rfl)
theorem dX0_word_2_43 : decode cX0_word_2 43 = .ok (.if_icmp .ne 5, 3) := dk_160 0 5 (dk_at dksX0_word_2_1 20 rfl rfl)
theorem dX0_word_2_46 : decode cX0_word_2 46 = .ok (.iconst (-1), 1) := dk_2 (dk_at dksX0_word_2_1 23 rfl rfl)
theorem dX0_word_2_47 : decode cX0_word_2 47 = .ok (.ireturn, 1) := dk_172 (dk_at dksX0_word_2_2 0 rfl rfl)
theorem dX0_word_2_48 : decode cX0_word_2 48 = .ok (.aload_n 0, 1) := dk_42 (dk_at dksX0_word_2_2 1 rfl rfl)
theorem dX0_word_2_49 : decode cX0_word_2 49 = .ok (.getfield 20, 3) := dk_180 0 20 (dk_at dksX0_word_2_2 2 rfl rfl)
theorem dX0_word_2_52 : decode cX0_word_2 52 = .ok (.getfield 121, 3) := dk_180 0 121 (dk_at dksX0_word_2_2 5 rfl rfl)
theorem dX0_word_2_55 : decode cX0_word_2 55 = .ok (.iload 4, 2) := dk_21 4 (dk_at dksX0_word_2_2 8 rfl rfl)
theorem dX0_word_2_57 : decode cX0_word_2 57 = .ok (.iload_n 1, 1) := dk_27 (dk_at dksX0_word_2_2 10 rfl rfl)
theorem dX0_word_2_58 : decode cX0_word_2 58 = .ok (.iastore, 1) := dk_79 (dk_at dksX0_word_2_2 11 rfl rfl)
theorem dX0_word_2_59 : decode cX0_word_2 59 = .ok (.aload_n 0, 1) := dk_42 (dk_at dksX0_word_2_2 12 rfl rfl)
theorem dX0_word_2_60 : decode cX0_word_2 60 = .ok (.getfield 20, 3) := dk_180 0 20 (dk_at dksX0_word_2_2 13 rfl rfl)
theorem dX0_word_2_63 : decode cX0_word_2 63 = .ok (.getfield 124, 3) := dk_180 0 124 (dk_at dksX0_word_2_2 16 rfl rfl)
theorem dX0_word_2_66 : decode cX0_word_2 66 = .ok (.iload 4, 2) := dk_21 4 (dk_at dksX0_word_2_2 19 rfl rfl)
theorem dX0_word_2_68 : decode cX0_word_2 68 = .ok (.iload_n 2, 1) := dk_28 (dk_at dksX0_word_2_2 21 rfl rfl)
theorem dX0_word_2_69 : decode cX0_word_2 69 = .ok (.iastore, 1) := dk_79 (dk_at dksX0_word_2_2 22 rfl rfl)
theorem dX0_word_2_70 : decode cX0_word_2 70 = .ok (.aload_n 0, 1) := dk_42 (dk_at dksX0_word_2_2 23 rfl rfl)
theorem dX0_word_2_71 : decode cX0_word_2 71 = .ok (.getfield 20, 3) := dk_180 0 20 (dk_at dksX0_word_2_3 0 rfl rfl)
theorem dX0_word_2_74 : decode cX0_word_2 74 = .ok (.getfield 127, 3) := dk_180 0 127 (dk_at dksX0_word_2_3 3 rfl rfl)
theorem dX0_word_2_77 : decode cX0_word_2 77 = .ok (.iload 4, 2) := dk_21 4 (dk_at dksX0_word_2_3 6 rfl rfl)
theorem dX0_word_2_79 : decode cX0_word_2 79 = .ok (.iload_n 3, 1) := dk_29 (dk_at dksX0_word_2_3 8 rfl rfl)
theorem dX0_word_2_80 : decode cX0_word_2 80 = .ok (.iastore, 1) := dk_79 (dk_at dksX0_word_2_3 9 rfl rfl)
theorem dX0_word_2_81 : decode cX0_word_2 81 = .ok (.aload_n 0, 1) := dk_42 (dk_at dksX0_word_2_3 10 rfl rfl)
theorem dX0_word_2_82 : decode cX0_word_2 82 = .ok (.getfield 20, 3) := dk_180 0 20 (dk_at dksX0_word_2_3 11 rfl rfl)
theorem dX0_word_2_85 : decode cX0_word_2 85 = .ok (.dup, 1) := dk_89 (dk_at dksX0_word_2_3 14 rfl rfl)
theorem dX0_word_2_86 : decode cX0_word_2 86 = .ok (.getfield 100, 3) := dk_180 0 100 (dk_at dksX0_word_2_3 15 rfl rfl)
theorem dX0_word_2_89 : decode cX0_word_2 89 = .ok (.iconst 1, 1) := dk_4 (dk_at dksX0_word_2_3 18 rfl rfl)
theorem dX0_word_2_90 : decode cX0_word_2 90 = .ok (.iadd, 1) := dk_96 (dk_at dksX0_word_2_3 19 rfl rfl)
theorem dX0_word_2_91 : decode cX0_word_2 91 = .ok (.putfield 100, 3) := dk_181 0 100 (dk_at dksX0_word_2_3 20 rfl rfl)
theorem dX0_word_2_94 : decode cX0_word_2 94 = .ok (.aload_n 0, 1) := dk_42 (dk_at dksX0_word_2_3 23 rfl rfl)
theorem dX0_word_2_95 : decode cX0_word_2 95 = .ok (.invokevirtual 110, 3) := dk_182 0 110 (dk_at dksX0_word_2_4 0 rfl rfl)
theorem dX0_word_2_98 : decode cX0_word_2 98 = .ok (.pop, 1) := dk_87 (dk_at dksX0_word_2_4 3 rfl rfl)
theorem dX0_word_2_99 : decode cX0_word_2 99 = .ok (.iload 4, 2) := dk_21 4 (dk_at dksX0_word_2_4 4 rfl rfl)
theorem dX0_word_2_101 : decode cX0_word_2 101 = .ok (.ireturn, 1) := dk_172 (dk_at dksX0_word_2_4 6 rfl rfl)
abbrev cX0_person : ByteArray := prog_1_method_18_code
def yX0_person : MethodName := ⟨RX0, "person", "(I)I"⟩
def dkwX0_person_2 : List UInt8 := [89, 180, 0, 93, 4, 96, 181, 0, 93, 42, 182, 0, 110, 87, 42, 180, 0, 20, 180, 0, 93, 4, 100, 172]
abbrev dktX0_person_2 : List UInt8 := dkwX0_person_2 ++ []
def dkwX0_person_1 : List UInt8 := [172, 42, 180, 0, 20, 180, 0, 130, 42, 180, 0, 20, 180, 0, 93, 50, 27, 182, 0, 134, 42, 180, 0, 20]
abbrev dktX0_person_1 : List UInt8 := dkwX0_person_1 ++ dktX0_person_2
def dkwX0_person_0 : List UInt8 := [42, 180, 0, 20, 27, 182, 0, 114, 153, 0, 15, 42, 180, 0, 20, 180, 0, 93, 16, 6, 160, 0, 5, 2]
abbrev dktX0_person_0 : List UInt8 := dkwX0_person_0 ++ dktX0_person_1
theorem dksX0_person_0 : cX0_person.data.toList.drop 0 = dktX0_person_0 := by decide +kernel
theorem dksX0_person_1 : cX0_person.data.toList.drop 24 = dktX0_person_1 := dk_seg dksX0_person_0 24 rfl rfl
theorem dksX0_person_2 : cX0_person.data.toList.drop 48 = dktX0_person_2 := dk_seg dksX0_person_1 24 rfl rfl
theorem dX0_person_0 : decode cX0_person 0 = .ok (.aload_n 0, 1) := dk_42 (dk_at dksX0_person_0 0 rfl rfl)
theorem dX0_person_1 : decode cX0_person 1 = .ok (.getfield 20, 3) := dk_180 0 20 (dk_at dksX0_person_0 1 rfl rfl)
theorem dX0_person_4 : decode cX0_person 4 = .ok (.iload_n 1, 1) := dk_27 (dk_at dksX0_person_0 4 rfl rfl)
theorem dX0_person_5 : decode cX0_person 5 = .ok (.invokevirtual 114, 3) := dk_182 0 114 (dk_at dksX0_person_0 5 rfl rfl)
theorem dX0_person_8 : decode cX0_person 8 = .ok (.ifCond .eq 15, 3) := dk_153 0 15 (dk_at dksX0_person_0 8 rfl rfl)
theorem dX0_person_11 : decode cX0_person 11 = .ok (.aload_n 0, 1) := dk_42 (dk_at dksX0_person_0 11 rfl rfl)
theorem dX0_person_12 : decode cX0_person 12 = .ok (.getfield 20, 3) := dk_180 0 20 (dk_at dksX0_person_0 12 rfl rfl)
theorem dX0_person_15 : decode cX0_person 15 = .ok (.getfield 93, 3) := dk_180 0 93 (dk_at dksX0_person_0 15 rfl rfl)
theorem dX0_person_18 : decode cX0_person 18 = .ok (.bipush 6, 2) := dk_16 6 (dk_at dksX0_person_0 18 rfl rfl)
theorem dX0_person_20 : decode cX0_person 20 = .ok (.if_icmp .ne 5, 3) := dk_160 0 5 (dk_at dksX0_person_0 20 rfl rfl)
theorem dX0_person_23 : decode cX0_person 23 = .ok (.iconst (-1), 1) := dk_2 (dk_at dksX0_person_0 23 rfl rfl)
theorem dX0_person_24 : decode cX0_person 24 = .ok (.ireturn, 1) := dk_172 (dk_at dksX0_person_1 0 rfl rfl)
theorem dX0_person_25 : decode cX0_person 25 = .ok (.aload_n 0, 1) := dk_42 (dk_at dksX0_person_1 1 rfl rfl)
theorem dX0_person_26 : decode cX0_person 26 = .ok (.getfield 20, 3) := dk_180 0 20 (dk_at dksX0_person_1 2 rfl rfl)
theorem dX0_person_29 : decode cX0_person 29 = .ok (.getfield 130, 3) := dk_180 0 130 (dk_at dksX0_person_1 5 rfl rfl)
theorem dX0_person_32 : decode cX0_person 32 = .ok (.aload_n 0, 1) := dk_42 (dk_at dksX0_person_1 8 rfl rfl)
theorem dX0_person_33 : decode cX0_person 33 = .ok (.getfield 20, 3) := dk_180 0 20 (dk_at dksX0_person_1 9 rfl rfl)
theorem dX0_person_36 : decode cX0_person 36 = .ok (.getfield 93, 3) := dk_180 0 93 (dk_at dksX0_person_1 12 rfl rfl)
theorem dX0_person_39 : decode cX0_person 39 = .ok (.aaload, 1) := dk_50 (dk_at dksX0_person_1 15 rfl rfl)
theorem dX0_person_40 : decode cX0_person 40 = .ok (.iload_n 1, 1) := dk_27 (dk_at dksX0_person_1 16 rfl rfl)
theorem dX0_person_41 : decode cX0_person 41 = .ok (.invokevirtual 134, 3) := dk_182 0 134 (dk_at dksX0_person_1 17 rfl rfl)
theorem dX0_person_44 : decode cX0_person 44 = .ok (.aload_n 0, 1) := dk_42 (dk_at dksX0_person_1 20 rfl rfl)
theorem dX0_person_45 : decode cX0_person 45 = .ok (.getfield 20, 3) := dk_180 0 20 (dk_at dksX0_person_1 21 rfl rfl)
theorem dX0_person_48 : decode cX0_person 48 = .ok (.dup, 1) := dk_89 (dk_at dksX0_person_2 0 rfl rfl)
theorem dX0_person_49 : decode cX0_person 49 = .ok (.getfield 93, 3) := dk_180 0 93 (dk_at dksX0_person_2 1 rfl rfl)
theorem dX0_person_52 : decode cX0_person 52 = .ok (.iconst 1, 1) := dk_4 (dk_at dksX0_person_2 4 rfl rfl)
theorem dX0_person_53 : decode cX0_person 53 = .ok (.iadd, 1) := dk_96 (dk_at dksX0_person_2 5 rfl rfl)
theorem dX0_person_54 : decode cX0_person 54 = .ok (.putfield 93, 3) := dk_181 0 93 (dk_at dksX0_person_2 6 rfl rfl)
theorem dX0_person_57 : decode cX0_person 57 = .ok (.aload_n 0, 1) := dk_42 (dk_at dksX0_person_2 9 rfl rfl)
theorem dX0_person_58 : decode cX0_person 58 = .ok (.invokevirtual 110, 3) := dk_182 0 110 (dk_at dksX0_person_2 10 rfl rfl)
theorem dX0_person_61 : decode cX0_person 61 = .ok (.pop, 1) := dk_87 (dk_at dksX0_person_2 13 rfl rfl)
theorem dX0_person_62 : decode cX0_person 62 = .ok (.aload_n 0, 1) := dk_42 (dk_at dksX0_person_2 14 rfl rfl)
theorem dX0_person_63 : decode cX0_person 63 = .ok (.getfield 20, 3) := dk_180 0 20 (dk_at dksX0_person_2 15 rfl rfl)
theorem dX0_person_66 : decode cX0_person 66 = .ok (.getfield 93, 3) := dk_180 0 93 (dk_at dksX0_person_2 18 rfl rfl)
theorem dX0_person_69 : decode cX0_person 69 = .ok (.iconst 1, 1) := dk_4 (dk_at dksX0_person_2 21 rfl rfl)
theorem dX0_person_70 : decode cX0_person 70 = .ok (.isub, 1) := dk_100 (dk_at dksX0_person_2 22 rfl rfl)
theorem dX0_person_71 : decode cX0_person 71 = .ok (.ireturn, 1) := dk_172 (dk_at dksX0_person_2 23 rfl rfl)
abbrev cX0_set : ByteArray := prog_1_method_19_code
def yX0_set : MethodName := ⟨RX0, "set", "(II)Z"⟩
def dkwX0_set_3 : List UInt8 := [182, 0, 110, 172, 42, 180, 0, 20, 28, 181, 0, 144, 42, 182, 0, 110, 172, 3, 172]
abbrev dktX0_set_3 : List UInt8 := dkwX0_set_3 ++ []
def dkwX0_set_2 : List UInt8 := [42, 180, 0, 20, 28, 181, 0, 138, 42, 182, 0, 110, 172, 42, 180, 0, 20, 28, 181, 0, 141, 42]
abbrev dktX0_set_2 : List UInt8 := dkwX0_set_2 ++ dktX0_set_3
def dkwX0_set_1 : List UInt8 := [170, 0, 0, 0, 0, 65, 0, 0, 0, 0, 0, 0, 0, 2, 0, 0, 0, 26, 0, 0, 0, 39, 0, 0, 0, 52]
abbrev dktX0_set_1 : List UInt8 := dkwX0_set_1 ++ dktX0_set_2
def dkwX0_set_0 : List UInt8 := [28, 3, 17, 3, 232, 184, 0, 50, 154, 0, 5, 3, 172, 27]
abbrev dktX0_set_0 : List UInt8 := dkwX0_set_0 ++ dktX0_set_1
theorem dksX0_set_0 : cX0_set.data.toList.drop 0 = dktX0_set_0 := by decide +kernel
theorem dksX0_set_1 : cX0_set.data.toList.drop 14 = dktX0_set_1 := dk_seg dksX0_set_0 14 rfl rfl
theorem dksX0_set_2 : cX0_set.data.toList.drop 40 = dktX0_set_2 := dk_seg dksX0_set_1 26 rfl rfl
theorem dksX0_set_3 : cX0_set.data.toList.drop 62 = dktX0_set_3 := dk_seg dksX0_set_2 22 rfl rfl
theorem dX0_set_0 : decode cX0_set 0 = .ok (.iload_n 2, 1) := dk_28 (dk_at dksX0_set_0 0 rfl rfl)
theorem dX0_set_1 : decode cX0_set 1 = .ok (.iconst 0, 1) := dk_3 (dk_at dksX0_set_0 1 rfl rfl)
theorem dX0_set_2 : decode cX0_set 2 = .ok (.sipush 1000, 3) := dk_17 3 232 (dk_at dksX0_set_0 2 rfl rfl)
theorem dX0_set_5 : decode cX0_set 5 = .ok (.invokestatic 50, 3) := dk_184 0 50 (dk_at dksX0_set_0 5 rfl rfl)
theorem dX0_set_8 : decode cX0_set 8 = .ok (.ifCond .ne 5, 3) := dk_154 0 5 (dk_at dksX0_set_0 8 rfl rfl)
theorem dX0_set_11 : decode cX0_set 11 = .ok (.iconst 0, 1) := dk_3 (dk_at dksX0_set_0 11 rfl rfl)
theorem dX0_set_12 : decode cX0_set 12 = .ok (.ireturn, 1) := dk_172 (dk_at dksX0_set_0 12 rfl rfl)
theorem dX0_set_13 : decode cX0_set 13 = .ok (.iload_n 1, 1) := dk_27 (dk_at dksX0_set_0 13 rfl rfl)
theorem dX0_set_14 : decode cX0_set 14 = .ok (.tableswitch 65 0 2 #[26, 39, 52], 26) := by decide +kernel
theorem dX0_set_40 : decode cX0_set 40 = .ok (.aload_n 0, 1) := dk_42 (dk_at dksX0_set_2 0 rfl rfl)
theorem dX0_set_41 : decode cX0_set 41 = .ok (.getfield 20, 3) := dk_180 0 20 (dk_at dksX0_set_2 1 rfl rfl)
theorem dX0_set_44 : decode cX0_set 44 = .ok (.iload_n 2, 1) := dk_28 (dk_at dksX0_set_2 4 rfl rfl)
theorem dX0_set_45 : decode cX0_set 45 = .ok (.putfield 138, 3) := dk_181 0 138 (dk_at dksX0_set_2 5 rfl rfl)
theorem dX0_set_48 : decode cX0_set 48 = .ok (.aload_n 0, 1) := dk_42 (dk_at dksX0_set_2 8 rfl rfl)
theorem dX0_set_49 : decode cX0_set 49 = .ok (.invokevirtual 110, 3) := dk_182 0 110 (dk_at dksX0_set_2 9 rfl rfl)
theorem dX0_set_52 : decode cX0_set 52 = .ok (.ireturn, 1) := dk_172 (dk_at dksX0_set_2 12 rfl rfl)
theorem dX0_set_53 : decode cX0_set 53 = .ok (.aload_n 0, 1) := dk_42 (dk_at dksX0_set_2 13 rfl rfl)
theorem dX0_set_54 : decode cX0_set 54 = .ok (.getfield 20, 3) := dk_180 0 20 (dk_at dksX0_set_2 14 rfl rfl)
theorem dX0_set_57 : decode cX0_set 57 = .ok (.iload_n 2, 1) := dk_28 (dk_at dksX0_set_2 17 rfl rfl)
theorem dX0_set_58 : decode cX0_set 58 = .ok (.putfield 141, 3) := dk_181 0 141 (dk_at dksX0_set_2 18 rfl rfl)
theorem dX0_set_61 : decode cX0_set 61 = .ok (.aload_n 0, 1) := dk_42 (dk_at dksX0_set_2 21 rfl rfl)
theorem dX0_set_62 : decode cX0_set 62 = .ok (.invokevirtual 110, 3) := dk_182 0 110 (dk_at dksX0_set_3 0 rfl rfl)
theorem dX0_set_65 : decode cX0_set 65 = .ok (.ireturn, 1) := dk_172 (dk_at dksX0_set_3 3 rfl rfl)
theorem dX0_set_66 : decode cX0_set 66 = .ok (.aload_n 0, 1) := dk_42 (dk_at dksX0_set_3 4 rfl rfl)
theorem dX0_set_67 : decode cX0_set 67 = .ok (.getfield 20, 3) := dk_180 0 20 (dk_at dksX0_set_3 5 rfl rfl)
theorem dX0_set_70 : decode cX0_set 70 = .ok (.iload_n 2, 1) := dk_28 (dk_at dksX0_set_3 8 rfl rfl)
theorem dX0_set_71 : decode cX0_set 71 = .ok (.putfield 144, 3) := dk_181 0 144 (dk_at dksX0_set_3 9 rfl rfl)
theorem dX0_set_74 : decode cX0_set 74 = .ok (.aload_n 0, 1) := dk_42 (dk_at dksX0_set_3 12 rfl rfl)
theorem dX0_set_75 : decode cX0_set 75 = .ok (.invokevirtual 110, 3) := dk_182 0 110 (dk_at dksX0_set_3 13 rfl rfl)
theorem dX0_set_78 : decode cX0_set 78 = .ok (.ireturn, 1) := dk_172 (dk_at dksX0_set_3 16 rfl rfl)
theorem dX0_set_79 : decode cX0_set 79 = .ok (.iconst 0, 1) := dk_3 (dk_at dksX0_set_3 17 rfl rfl)
theorem dX0_set_80 : decode cX0_set 80 = .ok (.ireturn, 1) := dk_172 (dk_at dksX0_set_3 18 rfl rfl)
abbrev cX0_go : ByteArray := prog_1_method_20_code
def yX0_go : MethodName := ⟨RX0, "go", "(III)Z"⟩
def dkwX0_go_6 : List UInt8 := [182, 0, 159, 87, 25, 4, 16, 8, 21, 6, 104, 21, 5, 96, 181, 0, 150, 4, 172]
abbrev dktX0_go_6 : List UInt8 := dkwX0_go_6 ++ []
def dkwX0_go_5 : List UInt8 := [153, 0, 21, 21, 6, 3, 42, 180, 0, 20, 180, 0, 156, 4, 100, 184, 0, 50, 154, 0, 5, 3, 172, 42]
abbrev dktX0_go_5 : List UInt8 := dkwX0_go_5 ++ dktX0_go_6
def dkwX0_go_4 : List UInt8 := [167, 0, 4, 3, 96, 54, 6, 21, 5, 3, 42, 180, 0, 20, 180, 0, 153, 4, 100, 184, 0, 50]
abbrev dktX0_go_4 : List UInt8 := dkwX0_go_4 ++ dktX0_go_5
def dkwX0_go_3 : List UInt8 := [25, 4, 180, 0, 150, 16, 8, 108, 28, 5, 160, 0, 7, 29, 167, 0, 13, 28, 154, 0, 8, 29, 116]
abbrev dktX0_go_3 : List UInt8 := dkwX0_go_3 ++ dktX0_go_4
def dkwX0_go_2 : List UInt8 := [28, 4, 160, 0, 7, 29, 167, 0, 14, 28, 6, 160, 0, 8, 29, 116, 167, 0, 4, 3, 96, 54, 5]
abbrev dktX0_go_2 : List UInt8 := dkwX0_go_2 ++ dktX0_go_3
def dkwX0_go_1 : List UInt8 := [154, 0, 5, 3, 172, 42, 180, 0, 20, 180, 0, 130, 27, 50, 58, 4, 25, 4, 180, 0, 150, 16, 8, 112]
abbrev dktX0_go_1 : List UInt8 := dkwX0_go_1 ++ dktX0_go_2
def dkwX0_go_0 : List UInt8 := [42, 27, 182, 0, 147, 153, 0, 22, 28, 3, 6, 184, 0, 50, 153, 0, 13, 29, 4, 16, 7, 184, 0, 50]
abbrev dktX0_go_0 : List UInt8 := dkwX0_go_0 ++ dktX0_go_1
theorem dksX0_go_0 : cX0_go.data.toList.drop 0 = dktX0_go_0 := by decide +kernel
theorem dksX0_go_1 : cX0_go.data.toList.drop 24 = dktX0_go_1 := dk_seg dksX0_go_0 24 rfl rfl
theorem dksX0_go_2 : cX0_go.data.toList.drop 48 = dktX0_go_2 := dk_seg dksX0_go_1 24 rfl rfl
theorem dksX0_go_3 : cX0_go.data.toList.drop 71 = dktX0_go_3 := dk_seg dksX0_go_2 23 rfl rfl
theorem dksX0_go_4 : cX0_go.data.toList.drop 94 = dktX0_go_4 := dk_seg dksX0_go_3 23 rfl rfl
theorem dksX0_go_5 : cX0_go.data.toList.drop 116 = dktX0_go_5 := dk_seg dksX0_go_4 22 rfl rfl
theorem dksX0_go_6 : cX0_go.data.toList.drop 140 = dktX0_go_6 := dk_seg dksX0_go_5 24 rfl rfl
theorem dX0_go_0 : decode cX0_go 0 = .ok (.aload_n 0, 1) := dk_42 (dk_at dksX0_go_0 0 rfl rfl)
theorem dX0_go_1 : decode cX0_go 1 = .ok (.iload_n 1, 1) := dk_27 (dk_at dksX0_go_0 1 rfl rfl)
theorem dX0_go_2 : decode cX0_go 2 = .ok (.invokevirtual 147, 3) := dk_182 0 147 (dk_at dksX0_go_0 2 rfl rfl)
theorem dX0_go_5 : decode cX0_go 5 = .ok (.ifCond .eq 22, 3) := dk_153 0 22 (dk_at dksX0_go_0 5 rfl rfl)
theorem dX0_go_8 : decode cX0_go 8 = .ok (.iload_n 2, 1) := dk_28 (dk_at dksX0_go_0 8 rfl rfl)
theorem dX0_go_9 : decode cX0_go 9 = .ok (.iconst 0, 1) := dk_3 (dk_at dksX0_go_0 9 rfl rfl)
theorem dX0_go_10 : decode cX0_go 10 = .ok (.iconst 3, 1) := dk_6 (dk_at dksX0_go_0 10 rfl rfl)
theorem dX0_go_11 : decode cX0_go 11 = .ok (.invokestatic 50, 3) := dk_184 0 50 (dk_at dksX0_go_0 11 rfl rfl)
theorem dX0_go_14 : decode cX0_go 14 = .ok (.ifCond .eq 13, 3) := dk_153 0 13 (dk_at dksX0_go_0 14 rfl rfl)
theorem dX0_go_17 : decode cX0_go 17 = .ok (.iload_n 3, 1) := dk_29 (dk_at dksX0_go_0 17 rfl rfl)
theorem dX0_go_18 : decode cX0_go 18 = .ok (.iconst 1, 1) := dk_4 (dk_at dksX0_go_0 18 rfl rfl)
theorem dX0_go_19 : decode cX0_go 19 = .ok (.bipush 7, 2) := dk_16 7 (dk_at dksX0_go_0 19 rfl rfl)
theorem dX0_go_21 : decode cX0_go 21 = .ok (.invokestatic 50, 3) := dk_184 0 50 (dk_at dksX0_go_0 21 rfl rfl)
theorem dX0_go_24 : decode cX0_go 24 = .ok (.ifCond .ne 5, 3) := dk_154 0 5 (dk_at dksX0_go_1 0 rfl rfl)
theorem dX0_go_27 : decode cX0_go 27 = .ok (.iconst 0, 1) := dk_3 (dk_at dksX0_go_1 3 rfl rfl)
theorem dX0_go_28 : decode cX0_go 28 = .ok (.ireturn, 1) := dk_172 (dk_at dksX0_go_1 4 rfl rfl)
theorem dX0_go_29 : decode cX0_go 29 = .ok (.aload_n 0, 1) := dk_42 (dk_at dksX0_go_1 5 rfl rfl)
theorem dX0_go_30 : decode cX0_go 30 = .ok (.getfield 20, 3) := dk_180 0 20 (dk_at dksX0_go_1 6 rfl rfl)
theorem dX0_go_33 : decode cX0_go 33 = .ok (.getfield 130, 3) := dk_180 0 130 (dk_at dksX0_go_1 9 rfl rfl)
theorem dX0_go_36 : decode cX0_go 36 = .ok (.iload_n 1, 1) := dk_27 (dk_at dksX0_go_1 12 rfl rfl)
theorem dX0_go_37 : decode cX0_go 37 = .ok (.aaload, 1) := dk_50 (dk_at dksX0_go_1 13 rfl rfl)
theorem dX0_go_38 : decode cX0_go 38 = .ok (.astore 4, 2) := dk_58 4 (dk_at dksX0_go_1 14 rfl rfl)
theorem dX0_go_40 : decode cX0_go 40 = .ok (.aload 4, 2) := dk_25 4 (dk_at dksX0_go_1 16 rfl rfl)
theorem dX0_go_42 : decode cX0_go 42 = .ok (.getfield 150, 3) := dk_180 0 150 (dk_at dksX0_go_1 18 rfl rfl)
theorem dX0_go_45 : decode cX0_go 45 = .ok (.bipush 8, 2) := dk_16 8 (dk_at dksX0_go_1 21 rfl rfl)
theorem dX0_go_47 : decode cX0_go 47 = .ok (.irem, 1) := dk_112 (dk_at dksX0_go_1 23 rfl rfl)
theorem dX0_go_48 : decode cX0_go 48 = .ok (.iload_n 2, 1) := dk_28 (dk_at dksX0_go_2 0 rfl rfl)
theorem dX0_go_49 : decode cX0_go 49 = .ok (.iconst 1, 1) := dk_4 (dk_at dksX0_go_2 1 rfl rfl)
theorem dX0_go_50 : decode cX0_go 50 = .ok (.if_icmp .ne 7, 3) := dk_160 0 7 (dk_at dksX0_go_2 2 rfl rfl)
theorem dX0_go_53 : decode cX0_go 53 = .ok (.iload_n 3, 1) := dk_29 (dk_at dksX0_go_2 5 rfl rfl)
theorem dX0_go_54 : decode cX0_go 54 = .ok (.goto 14, 3) := dk_167 0 14 (dk_at dksX0_go_2 6 rfl rfl)
theorem dX0_go_57 : decode cX0_go 57 = .ok (.iload_n 2, 1) := dk_28 (dk_at dksX0_go_2 9 rfl rfl)
theorem dX0_go_58 : decode cX0_go 58 = .ok (.iconst 3, 1) := dk_6 (dk_at dksX0_go_2 10 rfl rfl)
theorem dX0_go_59 : decode cX0_go 59 = .ok (.if_icmp .ne 8, 3) := dk_160 0 8 (dk_at dksX0_go_2 11 rfl rfl)
theorem dX0_go_62 : decode cX0_go 62 = .ok (.iload_n 3, 1) := dk_29 (dk_at dksX0_go_2 14 rfl rfl)
theorem dX0_go_63 : decode cX0_go 63 = .ok (.ineg, 1) := dk_116 (dk_at dksX0_go_2 15 rfl rfl)
theorem dX0_go_64 : decode cX0_go 64 = .ok (.goto 4, 3) := dk_167 0 4 (dk_at dksX0_go_2 16 rfl rfl)
theorem dX0_go_67 : decode cX0_go 67 = .ok (.iconst 0, 1) := dk_3 (dk_at dksX0_go_2 19 rfl rfl)
theorem dX0_go_68 : decode cX0_go 68 = .ok (.iadd, 1) := dk_96 (dk_at dksX0_go_2 20 rfl rfl)
theorem dX0_go_69 : decode cX0_go 69 = .ok (.istore 5, 2) := dk_54 5 (dk_at dksX0_go_2 21 rfl rfl)
theorem dX0_go_71 : decode cX0_go 71 = .ok (.aload 4, 2) := dk_25 4 (dk_at dksX0_go_3 0 rfl rfl)
theorem dX0_go_73 : decode cX0_go 73 = .ok (.getfield 150, 3) := dk_180 0 150 (dk_at dksX0_go_3 2 rfl rfl)
theorem dX0_go_76 : decode cX0_go 76 = .ok (.bipush 8, 2) := dk_16 8 (dk_at dksX0_go_3 5 rfl rfl)
theorem dX0_go_78 : decode cX0_go 78 = .ok (.idiv, 1) := dk_108 (dk_at dksX0_go_3 7 rfl rfl)
theorem dX0_go_79 : decode cX0_go 79 = .ok (.iload_n 2, 1) := dk_28 (dk_at dksX0_go_3 8 rfl rfl)
theorem dX0_go_80 : decode cX0_go 80 = .ok (.iconst 2, 1) := dk_5 (dk_at dksX0_go_3 9 rfl rfl)
theorem dX0_go_81 : decode cX0_go 81 = .ok (.if_icmp .ne 7, 3) := dk_160 0 7 (dk_at dksX0_go_3 10 rfl rfl)
theorem dX0_go_84 : decode cX0_go 84 = .ok (.iload_n 3, 1) := dk_29 (dk_at dksX0_go_3 13 rfl rfl)
theorem dX0_go_85 : decode cX0_go 85 = .ok (.goto 13, 3) := dk_167 0 13 (dk_at dksX0_go_3 14 rfl rfl)
theorem dX0_go_88 : decode cX0_go 88 = .ok (.iload_n 2, 1) := dk_28 (dk_at dksX0_go_3 17 rfl rfl)
theorem dX0_go_89 : decode cX0_go 89 = .ok (.ifCond .ne 8, 3) := dk_154 0 8 (dk_at dksX0_go_3 18 rfl rfl)
theorem dX0_go_92 : decode cX0_go 92 = .ok (.iload_n 3, 1) := dk_29 (dk_at dksX0_go_3 21 rfl rfl)
theorem dX0_go_93 : decode cX0_go 93 = .ok (.ineg, 1) := dk_116 (dk_at dksX0_go_3 22 rfl rfl)
theorem dX0_go_94 : decode cX0_go 94 = .ok (.goto 4, 3) := dk_167 0 4 (dk_at dksX0_go_4 0 rfl rfl)
theorem dX0_go_97 : decode cX0_go 97 = .ok (.iconst 0, 1) := dk_3 (dk_at dksX0_go_4 3 rfl rfl)
theorem dX0_go_98 : decode cX0_go 98 = .ok (.iadd, 1) := dk_96 (dk_at dksX0_go_4 4 rfl rfl)
theorem dX0_go_99 : decode cX0_go 99 = .ok (.istore 6, 2) := dk_54 6 (dk_at dksX0_go_4 5 rfl rfl)
theorem dX0_go_101 : decode cX0_go 101 = .ok (.iload 5, 2) := dk_21 5 (dk_at dksX0_go_4 7 rfl rfl)
theorem dX0_go_103 : decode cX0_go 103 = .ok (.iconst 0, 1) := dk_3 (dk_at dksX0_go_4 9 rfl rfl)
theorem dX0_go_104 : decode cX0_go 104 = .ok (.aload_n 0, 1) := dk_42 (dk_at dksX0_go_4 10 rfl rfl)
theorem dX0_go_105 : decode cX0_go 105 = .ok (.getfield 20, 3) := dk_180 0 20 (dk_at dksX0_go_4 11 rfl rfl)
theorem dX0_go_108 : decode cX0_go 108 = .ok (.getfield 153, 3) := dk_180 0 153 (dk_at dksX0_go_4 14 rfl rfl)
theorem dX0_go_111 : decode cX0_go 111 = .ok (.iconst 1, 1) := dk_4 (dk_at dksX0_go_4 17 rfl rfl)
theorem dX0_go_112 : decode cX0_go 112 = .ok (.isub, 1) := dk_100 (dk_at dksX0_go_4 18 rfl rfl)
theorem dX0_go_113 : decode cX0_go 113 = .ok (.invokestatic 50, 3) := dk_184 0 50 (dk_at dksX0_go_4 19 rfl rfl)
theorem dX0_go_116 : decode cX0_go 116 = .ok (.ifCond .eq 21, 3) := dk_153 0 21 (dk_at dksX0_go_5 0 rfl rfl)
theorem dX0_go_119 : decode cX0_go 119 = .ok (.iload 6, 2) := dk_21 6 (dk_at dksX0_go_5 3 rfl rfl)
theorem dX0_go_121 : decode cX0_go 121 = .ok (.iconst 0, 1) := dk_3 (dk_at dksX0_go_5 5 rfl rfl)
theorem dX0_go_122 : decode cX0_go 122 = .ok (.aload_n 0, 1) := dk_42 (dk_at dksX0_go_5 6 rfl rfl)
theorem dX0_go_123 : decode cX0_go 123 = .ok (.getfield 20, 3) := dk_180 0 20 (dk_at dksX0_go_5 7 rfl rfl)
theorem dX0_go_126 : decode cX0_go 126 = .ok (.getfield 156, 3) := dk_180 0 156 (dk_at dksX0_go_5 10 rfl rfl)
theorem dX0_go_129 : decode cX0_go 129 = .ok (.iconst 1, 1) := dk_4 (dk_at dksX0_go_5 13 rfl rfl)
theorem dX0_go_130 : decode cX0_go 130 = .ok (.isub, 1) := dk_100 (dk_at dksX0_go_5 14 rfl rfl)
theorem dX0_go_131 : decode cX0_go 131 = .ok (.invokestatic 50, 3) := dk_184 0 50 (dk_at dksX0_go_5 15 rfl rfl)
theorem dX0_go_134 : decode cX0_go 134 = .ok (.ifCond .ne 5, 3) := dk_154 0 5 (dk_at dksX0_go_5 18 rfl rfl)
theorem dX0_go_137 : decode cX0_go 137 = .ok (.iconst 0, 1) := dk_3 (dk_at dksX0_go_5 21 rfl rfl)
theorem dX0_go_138 : decode cX0_go 138 = .ok (.ireturn, 1) := dk_172 (dk_at dksX0_go_5 22 rfl rfl)
theorem dX0_go_139 : decode cX0_go 139 = .ok (.aload_n 0, 1) := dk_42 (dk_at dksX0_go_5 23 rfl rfl)
theorem dX0_go_140 : decode cX0_go 140 = .ok (.invokevirtual 159, 3) := dk_182 0 159 (dk_at dksX0_go_6 0 rfl rfl)
theorem dX0_go_143 : decode cX0_go 143 = .ok (.pop, 1) := dk_87 (dk_at dksX0_go_6 3 rfl rfl)
theorem dX0_go_144 : decode cX0_go 144 = .ok (.aload 4, 2) := dk_25 4 (dk_at dksX0_go_6 4 rfl rfl)
theorem dX0_go_146 : decode cX0_go 146 = .ok (.bipush 8, 2) := dk_16 8 (dk_at dksX0_go_6 6 rfl rfl)
theorem dX0_go_148 : decode cX0_go 148 = .ok (.iload 6, 2) := dk_21 6 (dk_at dksX0_go_6 8 rfl rfl)
theorem dX0_go_150 : decode cX0_go 150 = .ok (.imul, 1) := dk_104 (dk_at dksX0_go_6 10 rfl rfl)
theorem dX0_go_151 : decode cX0_go 151 = .ok (.iload 5, 2) := dk_21 5 (dk_at dksX0_go_6 11 rfl rfl)
theorem dX0_go_153 : decode cX0_go 153 = .ok (.iadd, 1) := dk_96 (dk_at dksX0_go_6 13 rfl rfl)
theorem dX0_go_154 : decode cX0_go 154 = .ok (.putfield 150, 3) := dk_181 0 150 (dk_at dksX0_go_6 14 rfl rfl)
theorem dX0_go_157 : decode cX0_go 157 = .ok (.iconst 1, 1) := dk_4 (dk_at dksX0_go_6 17 rfl rfl)
theorem dX0_go_158 : decode cX0_go 158 = .ok (.ireturn, 1) := dk_172 (dk_at dksX0_go_6 18 rfl rfl)
abbrev cX0_isPerson : ByteArray := prog_1_method_12_code
def yX0_isPerson : MethodName := ⟨RX0, "isPerson", "(I)Z"⟩
def dkwX0_isPerson_0 : List UInt8 := [27, 3, 42, 180, 0, 20, 180, 0, 93, 4, 100, 184, 0, 50, 172]
abbrev dktX0_isPerson_0 : List UInt8 := dkwX0_isPerson_0 ++ []
theorem dksX0_isPerson_0 : cX0_isPerson.data.toList.drop 0 = dktX0_isPerson_0 := by decide +kernel
theorem dX0_isPerson_0 : decode cX0_isPerson 0 = .ok (.iload_n 1, 1) := dk_27 (dk_at dksX0_isPerson_0 0 rfl rfl)
theorem dX0_isPerson_1 : decode cX0_isPerson 1 = .ok (.iconst 0, 1) := dk_3 (dk_at dksX0_isPerson_0 1 rfl rfl)
theorem dX0_isPerson_2 : decode cX0_isPerson 2 = .ok (.aload_n 0, 1) := dk_42 (dk_at dksX0_isPerson_0 2 rfl rfl)
theorem dX0_isPerson_3 : decode cX0_isPerson 3 = .ok (.getfield 20, 3) := dk_180 0 20 (dk_at dksX0_isPerson_0 3 rfl rfl)
theorem dX0_isPerson_6 : decode cX0_isPerson 6 = .ok (.getfield 93, 3) := dk_180 0 93 (dk_at dksX0_isPerson_0 6 rfl rfl)
theorem dX0_isPerson_9 : decode cX0_isPerson 9 = .ok (.iconst 1, 1) := dk_4 (dk_at dksX0_isPerson_0 9 rfl rfl)
theorem dX0_isPerson_10 : decode cX0_isPerson 10 = .ok (.isub, 1) := dk_100 (dk_at dksX0_isPerson_0 10 rfl rfl)
theorem dX0_isPerson_11 : decode cX0_isPerson 11 = .ok (.invokestatic 50, 3) := dk_184 0 50 (dk_at dksX0_isPerson_0 11 rfl rfl)
theorem dX0_isPerson_14 : decode cX0_isPerson 14 = .ok (.ireturn, 1) := dk_172 (dk_at dksX0_isPerson_0 14 rfl rfl)
abbrev cX0_keeps : ByteArray := prog_1_method_10_code
def yX0_keeps : MethodName := ⟨RX0, "keeps", "()Z"⟩
def dkwX0_keeps_4 : List UInt8 := [182, 0, 96, 42, 89, 180, 0, 90, 4, 96, 181, 0, 90, 4, 172]
abbrev dktX0_keeps_4 : List UInt8 := dkwX0_keeps_4 ++ []
def dkwX0_keeps_3 : List UInt8 := [180, 0, 20, 180, 0, 93, 181, 0, 93, 42, 180, 0, 30, 42, 180, 0, 90, 50, 42, 180, 0, 20]
abbrev dktX0_keeps_3 : List UInt8 := dkwX0_keeps_3 ++ dktX0_keeps_4
def dkwX0_keeps_2 : List UInt8 := [16, 11, 43, 83, 42, 89, 180, 0, 90, 4, 100, 181, 0, 90, 42, 180, 0, 30, 42, 180, 0, 90, 50, 42]
abbrev dktX0_keeps_2 : List UInt8 := dkwX0_keeps_2 ++ dktX0_keeps_3
def dkwX0_keeps_1 : List UInt8 := [42, 180, 0, 30, 28, 4, 100, 42, 180, 0, 30, 28, 50, 83, 132, 2, 1, 167, 255, 233, 42, 180, 0, 30]
abbrev dktX0_keeps_1 : List UInt8 := dkwX0_keeps_1 ++ dktX0_keeps_2
def dkwX0_keeps_0 : List UInt8 := [42, 180, 0, 90, 16, 12, 160, 0, 56, 42, 180, 0, 30, 3, 50, 76, 4, 61, 28, 16, 12, 162, 0, 23]
abbrev dktX0_keeps_0 : List UInt8 := dkwX0_keeps_0 ++ dktX0_keeps_1
theorem dksX0_keeps_0 : cX0_keeps.data.toList.drop 0 = dktX0_keeps_0 := by decide +kernel
theorem dksX0_keeps_1 : cX0_keeps.data.toList.drop 24 = dktX0_keeps_1 := dk_seg dksX0_keeps_0 24 rfl rfl
theorem dksX0_keeps_2 : cX0_keeps.data.toList.drop 48 = dktX0_keeps_2 := dk_seg dksX0_keeps_1 24 rfl rfl
theorem dksX0_keeps_3 : cX0_keeps.data.toList.drop 72 = dktX0_keeps_3 := dk_seg dksX0_keeps_2 24 rfl rfl
theorem dksX0_keeps_4 : cX0_keeps.data.toList.drop 94 = dktX0_keeps_4 := dk_seg dksX0_keeps_3 22 rfl rfl
theorem dX0_keeps_0 : decode cX0_keeps 0 = .ok (.aload_n 0, 1) := dk_42 (dk_at dksX0_keeps_0 0 rfl rfl)
theorem dX0_keeps_1 : decode cX0_keeps 1 = .ok (.getfield 90, 3) := dk_180 0 90 (dk_at dksX0_keeps_0 1 rfl rfl)
theorem dX0_keeps_4 : decode cX0_keeps 4 = .ok (.bipush 12, 2) := dk_16 12 (dk_at dksX0_keeps_0 4 rfl rfl)
theorem dX0_keeps_6 : decode cX0_keeps 6 = .ok (.if_icmp .ne 56, 3) := dk_160 0 56 (dk_at dksX0_keeps_0 6 rfl rfl)
theorem dX0_keeps_9 : decode cX0_keeps 9 = .ok (.aload_n 0, 1) := dk_42 (dk_at dksX0_keeps_0 9 rfl rfl)
theorem dX0_keeps_10 : decode cX0_keeps 10 = .ok (.getfield 30, 3) := dk_180 0 30 (dk_at dksX0_keeps_0 10 rfl rfl)
theorem dX0_keeps_13 : decode cX0_keeps 13 = .ok (.iconst 0, 1) := dk_3 (dk_at dksX0_keeps_0 13 rfl rfl)
theorem dX0_keeps_14 : decode cX0_keeps 14 = .ok (.aaload, 1) := dk_50 (dk_at dksX0_keeps_0 14 rfl rfl)
theorem dX0_keeps_15 : decode cX0_keeps 15 = .ok (.astore_n 1, 1) := dk_76 (dk_at dksX0_keeps_0 15 rfl rfl)
theorem dX0_keeps_16 : decode cX0_keeps 16 = .ok (.iconst 1, 1) := dk_4 (dk_at dksX0_keeps_0 16 rfl rfl)
theorem dX0_keeps_17 : decode cX0_keeps 17 = .ok (.istore_n 2, 1) := dk_61 (dk_at dksX0_keeps_0 17 rfl rfl)
theorem dX0_keeps_18 : decode cX0_keeps 18 = .ok (.iload_n 2, 1) := dk_28 (dk_at dksX0_keeps_0 18 rfl rfl)
theorem dX0_keeps_19 : decode cX0_keeps 19 = .ok (.bipush 12, 2) := dk_16 12 (dk_at dksX0_keeps_0 19 rfl rfl)
theorem dX0_keeps_21 : decode cX0_keeps 21 = .ok (.if_icmp .ge 23, 3) := dk_162 0 23 (dk_at dksX0_keeps_0 21 rfl rfl)
theorem dX0_keeps_24 : decode cX0_keeps 24 = .ok (.aload_n 0, 1) := dk_42 (dk_at dksX0_keeps_1 0 rfl rfl)
theorem dX0_keeps_25 : decode cX0_keeps 25 = .ok (.getfield 30, 3) := dk_180 0 30 (dk_at dksX0_keeps_1 1 rfl rfl)
theorem dX0_keeps_28 : decode cX0_keeps 28 = .ok (.iload_n 2, 1) := dk_28 (dk_at dksX0_keeps_1 4 rfl rfl)
theorem dX0_keeps_29 : decode cX0_keeps 29 = .ok (.iconst 1, 1) := dk_4 (dk_at dksX0_keeps_1 5 rfl rfl)
theorem dX0_keeps_30 : decode cX0_keeps 30 = .ok (.isub, 1) := dk_100 (dk_at dksX0_keeps_1 6 rfl rfl)
theorem dX0_keeps_31 : decode cX0_keeps 31 = .ok (.aload_n 0, 1) := dk_42 (dk_at dksX0_keeps_1 7 rfl rfl)
theorem dX0_keeps_32 : decode cX0_keeps 32 = .ok (.getfield 30, 3) := dk_180 0 30 (dk_at dksX0_keeps_1 8 rfl rfl)
theorem dX0_keeps_35 : decode cX0_keeps 35 = .ok (.iload_n 2, 1) := dk_28 (dk_at dksX0_keeps_1 11 rfl rfl)
theorem dX0_keeps_36 : decode cX0_keeps 36 = .ok (.aaload, 1) := dk_50 (dk_at dksX0_keeps_1 12 rfl rfl)
theorem dX0_keeps_37 : decode cX0_keeps 37 = .ok (.aastore, 1) := dk_83 (dk_at dksX0_keeps_1 13 rfl rfl)
theorem dX0_keeps_38 : decode cX0_keeps 38 = .ok (.iinc 2 1, 3) := dk_132 2 1 (dk_at dksX0_keeps_1 14 rfl rfl)
theorem dX0_keeps_41 : decode cX0_keeps 41 = .ok (.goto (-23), 3) := dk_167 255 233 (dk_at dksX0_keeps_1 17 rfl rfl)
theorem dX0_keeps_44 : decode cX0_keeps 44 = .ok (.aload_n 0, 1) := dk_42 (dk_at dksX0_keeps_1 20 rfl rfl)
theorem dX0_keeps_45 : decode cX0_keeps 45 = .ok (.getfield 30, 3) := dk_180 0 30 (dk_at dksX0_keeps_1 21 rfl rfl)
theorem dX0_keeps_48 : decode cX0_keeps 48 = .ok (.bipush 11, 2) := dk_16 11 (dk_at dksX0_keeps_2 0 rfl rfl)
theorem dX0_keeps_50 : decode cX0_keeps 50 = .ok (.aload_n 1, 1) := dk_43 (dk_at dksX0_keeps_2 2 rfl rfl)
theorem dX0_keeps_51 : decode cX0_keeps 51 = .ok (.aastore, 1) := dk_83 (dk_at dksX0_keeps_2 3 rfl rfl)
theorem dX0_keeps_52 : decode cX0_keeps 52 = .ok (.aload_n 0, 1) := dk_42 (dk_at dksX0_keeps_2 4 rfl rfl)
theorem dX0_keeps_53 : decode cX0_keeps 53 = .ok (.dup, 1) := dk_89 (dk_at dksX0_keeps_2 5 rfl rfl)
theorem dX0_keeps_54 : decode cX0_keeps 54 = .ok (.getfield 90, 3) := dk_180 0 90 (dk_at dksX0_keeps_2 6 rfl rfl)
theorem dX0_keeps_57 : decode cX0_keeps 57 = .ok (.iconst 1, 1) := dk_4 (dk_at dksX0_keeps_2 9 rfl rfl)
theorem dX0_keeps_58 : decode cX0_keeps 58 = .ok (.isub, 1) := dk_100 (dk_at dksX0_keeps_2 10 rfl rfl)
theorem dX0_keeps_59 : decode cX0_keeps 59 = .ok (.putfield 90, 3) := dk_181 0 90 (dk_at dksX0_keeps_2 11 rfl rfl)
theorem dX0_keeps_62 : decode cX0_keeps 62 = .ok (.aload_n 0, 1) := dk_42 (dk_at dksX0_keeps_2 14 rfl rfl)
theorem dX0_keeps_63 : decode cX0_keeps 63 = .ok (.getfield 30, 3) := dk_180 0 30 (dk_at dksX0_keeps_2 15 rfl rfl)
theorem dX0_keeps_66 : decode cX0_keeps 66 = .ok (.aload_n 0, 1) := dk_42 (dk_at dksX0_keeps_2 18 rfl rfl)
theorem dX0_keeps_67 : decode cX0_keeps 67 = .ok (.getfield 90, 3) := dk_180 0 90 (dk_at dksX0_keeps_2 19 rfl rfl)
theorem dX0_keeps_70 : decode cX0_keeps 70 = .ok (.aaload, 1) := dk_50 (dk_at dksX0_keeps_2 22 rfl rfl)
theorem dX0_keeps_71 : decode cX0_keeps 71 = .ok (.aload_n 0, 1) := dk_42 (dk_at dksX0_keeps_2 23 rfl rfl)
theorem dX0_keeps_72 : decode cX0_keeps 72 = .ok (.getfield 20, 3) := dk_180 0 20 (dk_at dksX0_keeps_3 0 rfl rfl)
theorem dX0_keeps_75 : decode cX0_keeps 75 = .ok (.getfield 93, 3) := dk_180 0 93 (dk_at dksX0_keeps_3 3 rfl rfl)
theorem dX0_keeps_78 : decode cX0_keeps 78 = .ok (.putfield 93, 3) := dk_181 0 93 (dk_at dksX0_keeps_3 6 rfl rfl)
theorem dX0_keeps_81 : decode cX0_keeps 81 = .ok (.aload_n 0, 1) := dk_42 (dk_at dksX0_keeps_3 9 rfl rfl)
theorem dX0_keeps_82 : decode cX0_keeps 82 = .ok (.getfield 30, 3) := dk_180 0 30 (dk_at dksX0_keeps_3 10 rfl rfl)
theorem dX0_keeps_85 : decode cX0_keeps 85 = .ok (.aload_n 0, 1) := dk_42 (dk_at dksX0_keeps_3 13 rfl rfl)
theorem dX0_keeps_86 : decode cX0_keeps 86 = .ok (.getfield 90, 3) := dk_180 0 90 (dk_at dksX0_keeps_3 14 rfl rfl)
theorem dX0_keeps_89 : decode cX0_keeps 89 = .ok (.aaload, 1) := dk_50 (dk_at dksX0_keeps_3 17 rfl rfl)
theorem dX0_keeps_90 : decode cX0_keeps 90 = .ok (.aload_n 0, 1) := dk_42 (dk_at dksX0_keeps_3 18 rfl rfl)
theorem dX0_keeps_91 : decode cX0_keeps 91 = .ok (.getfield 20, 3) := dk_180 0 20 (dk_at dksX0_keeps_3 19 rfl rfl)
theorem dX0_keeps_94 : decode cX0_keeps 94 = .ok (.invokevirtual 96, 3) := dk_182 0 96 (dk_at dksX0_keeps_4 0 rfl rfl)
theorem dX0_keeps_97 : decode cX0_keeps 97 = .ok (.aload_n 0, 1) := dk_42 (dk_at dksX0_keeps_4 3 rfl rfl)
theorem dX0_keeps_98 : decode cX0_keeps 98 = .ok (.dup, 1) := dk_89 (dk_at dksX0_keeps_4 4 rfl rfl)
theorem dX0_keeps_99 : decode cX0_keeps 99 = .ok (.getfield 90, 3) := dk_180 0 90 (dk_at dksX0_keeps_4 5 rfl rfl)
theorem dX0_keeps_102 : decode cX0_keeps 102 = .ok (.iconst 1, 1) := dk_4 (dk_at dksX0_keeps_4 8 rfl rfl)
theorem dX0_keeps_103 : decode cX0_keeps 103 = .ok (.iadd, 1) := dk_96 (dk_at dksX0_keeps_4 9 rfl rfl)
theorem dX0_keeps_104 : decode cX0_keeps 104 = .ok (.putfield 90, 3) := dk_181 0 90 (dk_at dksX0_keeps_4 10 rfl rfl)
theorem dX0_keeps_107 : decode cX0_keeps 107 = .ok (.iconst 1, 1) := dk_4 (dk_at dksX0_keeps_4 13 rfl rfl)
theorem dX0_keeps_108 : decode cX0_keeps 108 = .ok (.ireturn, 1) := dk_172 (dk_at dksX0_keeps_4 14 rfl rfl)
abbrev cX0_breaks : ByteArray := prog_1_method_21_code
def yX0_breaks : MethodName := ⟨RX0, "breaks", "(II)Z"⟩
def dkwX0_breaks_7 : List UInt8 := [42, 180, 0, 20, 180, 0, 178, 79, 42, 180, 0, 20, 89, 180, 0, 184, 4, 96, 181, 0, 184, 4, 172]
abbrev dktX0_breaks_7 : List UInt8 := dkwX0_breaks_7 ++ []
def dkwX0_breaks_6 : List UInt8 := [180, 0, 184, 50, 58, 4, 25, 4, 3, 27, 79, 25, 4, 4, 29, 79, 25, 4, 5, 28, 79, 25, 4, 6]
abbrev dktX0_breaks_6 : List UInt8 := dkwX0_breaks_6 ++ dktX0_breaks_7
def dkwX0_breaks_5 : List UInt8 := [180, 0, 20, 180, 0, 184, 16, 100, 160, 0, 5, 4, 172, 42, 180, 0, 20, 180, 0, 187, 42, 180, 0, 20]
abbrev dktX0_breaks_5 : List UInt8 := dkwX0_breaks_5 ++ dktX0_breaks_6
def dkwX0_breaks_4 : List UInt8 := [180, 0, 175, 29, 42, 180, 0, 20, 180, 0, 178, 79, 42, 180, 0, 20, 180, 0, 181, 29, 27, 79, 42]
abbrev dktX0_breaks_4 : List UInt8 := dkwX0_breaks_4 ++ dktX0_breaks_5
def dkwX0_breaks_3 : List UInt8 := [180, 0, 20, 180, 0, 171, 29, 28, 79, 42, 180, 0, 20, 180, 0, 173, 29, 3, 79, 42, 180, 0, 20]
abbrev dktX0_breaks_3 : List UInt8 := dkwX0_breaks_3 ++ dktX0_breaks_4
def dkwX0_breaks_2 : List UInt8 := [153, 0, 5, 3, 172, 42, 182, 0, 159, 87, 42, 180, 0, 20, 180, 0, 130, 27, 50, 180, 0, 150, 62, 42]
abbrev dktX0_breaks_2 : List UInt8 := dkwX0_breaks_2 ++ dktX0_breaks_3
def dkwX0_breaks_1 : List UInt8 := [159, 0, 25, 42, 180, 0, 20, 42, 180, 0, 20, 180, 0, 130, 27, 50, 180, 0, 150, 182, 0, 168]
abbrev dktX0_breaks_1 : List UInt8 := dkwX0_breaks_1 ++ dktX0_breaks_2
def dkwX0_breaks_0 : List UInt8 := [42, 27, 182, 0, 147, 153, 0, 44, 42, 28, 182, 0, 162, 153, 0, 36, 42, 180, 0, 20, 180, 0, 165, 4]
abbrev dktX0_breaks_0 : List UInt8 := dkwX0_breaks_0 ++ dktX0_breaks_1
theorem dksX0_breaks_0 : cX0_breaks.data.toList.drop 0 = dktX0_breaks_0 := by decide +kernel
theorem dksX0_breaks_1 : cX0_breaks.data.toList.drop 24 = dktX0_breaks_1 := dk_seg dksX0_breaks_0 24 rfl rfl
theorem dksX0_breaks_2 : cX0_breaks.data.toList.drop 46 = dktX0_breaks_2 := dk_seg dksX0_breaks_1 22 rfl rfl
theorem dksX0_breaks_3 : cX0_breaks.data.toList.drop 70 = dktX0_breaks_3 := dk_seg dksX0_breaks_2 24 rfl rfl
theorem dksX0_breaks_4 : cX0_breaks.data.toList.drop 93 = dktX0_breaks_4 := dk_seg dksX0_breaks_3 23 rfl rfl
theorem dksX0_breaks_5 : cX0_breaks.data.toList.drop 116 = dktX0_breaks_5 := dk_seg dksX0_breaks_4 23 rfl rfl
theorem dksX0_breaks_6 : cX0_breaks.data.toList.drop 140 = dktX0_breaks_6 := dk_seg dksX0_breaks_5 24 rfl rfl
theorem dksX0_breaks_7 : cX0_breaks.data.toList.drop 164 = dktX0_breaks_7 := dk_seg dksX0_breaks_6 24 rfl rfl
theorem dX0_breaks_0 : decode cX0_breaks 0 = .ok (.aload_n 0, 1) := dk_42 (dk_at dksX0_breaks_0 0 rfl rfl)
theorem dX0_breaks_1 : decode cX0_breaks 1 = .ok (.iload_n 1, 1) := dk_27 (dk_at dksX0_breaks_0 1 rfl rfl)
theorem dX0_breaks_2 : decode cX0_breaks 2 = .ok (.invokevirtual 147, 3) := dk_182 0 147 (dk_at dksX0_breaks_0 2 rfl rfl)
theorem dX0_breaks_5 : decode cX0_breaks 5 = .ok (.ifCond .eq 44, 3) := dk_153 0 44 (dk_at dksX0_breaks_0 5 rfl rfl)
theorem dX0_breaks_8 : decode cX0_breaks 8 = .ok (.aload_n 0, 1) := dk_42 (dk_at dksX0_breaks_0 8 rfl rfl)
theorem dX0_breaks_9 : decode cX0_breaks 9 = .ok (.iload_n 2, 1) := dk_28 (dk_at dksX0_breaks_0 9 rfl rfl)
theorem dX0_breaks_10 : decode cX0_breaks 10 = .ok (.invokevirtual 162, 3) := dk_182 0 162 (dk_at dksX0_breaks_0 10 rfl rfl)
theorem dX0_breaks_13 : decode cX0_breaks 13 = .ok (.ifCond .eq 36, 3) := dk_153 0 36 (dk_at dksX0_breaks_0 13 rfl rfl)
theorem dX0_breaks_16 : decode cX0_breaks 16 = .ok (.aload_n 0, 1) := dk_42 (dk_at dksX0_breaks_0 16 rfl rfl)
theorem dX0_breaks_17 : decode cX0_breaks 17 = .ok (.getfield 20, 3) := dk_180 0 20 (dk_at dksX0_breaks_0 17 rfl rfl)
theorem dX0_breaks_20 : decode cX0_breaks 20 = .ok (.getfield 165, 3) := dk_180 0 165 (dk_at dksX0_breaks_0 20 rfl rfl)
theorem dX0_breaks_23 : decode cX0_breaks 23 = .ok (.iconst 1, 1) := dk_4 (dk_at dksX0_breaks_0 23 rfl rfl)
theorem dX0_breaks_24 : decode cX0_breaks 24 = .ok (.if_icmp .eq 25, 3) := dk_159 0 25 (dk_at dksX0_breaks_1 0 rfl rfl)
theorem dX0_breaks_27 : decode cX0_breaks 27 = .ok (.aload_n 0, 1) := dk_42 (dk_at dksX0_breaks_1 3 rfl rfl)
theorem dX0_breaks_28 : decode cX0_breaks 28 = .ok (.getfield 20, 3) := dk_180 0 20 (dk_at dksX0_breaks_1 4 rfl rfl)
theorem dX0_breaks_31 : decode cX0_breaks 31 = .ok (.aload_n 0, 1) := dk_42 (dk_at dksX0_breaks_1 7 rfl rfl)
theorem dX0_breaks_32 : decode cX0_breaks 32 = .ok (.getfield 20, 3) := dk_180 0 20 (dk_at dksX0_breaks_1 8 rfl rfl)
theorem dX0_breaks_35 : decode cX0_breaks 35 = .ok (.getfield 130, 3) := dk_180 0 130 (dk_at dksX0_breaks_1 11 rfl rfl)
theorem dX0_breaks_38 : decode cX0_breaks 38 = .ok (.iload_n 1, 1) := dk_27 (dk_at dksX0_breaks_1 14 rfl rfl)
theorem dX0_breaks_39 : decode cX0_breaks 39 = .ok (.aaload, 1) := dk_50 (dk_at dksX0_breaks_1 15 rfl rfl)
theorem dX0_breaks_40 : decode cX0_breaks 40 = .ok (.getfield 150, 3) := dk_180 0 150 (dk_at dksX0_breaks_1 16 rfl rfl)
theorem dX0_breaks_43 : decode cX0_breaks 43 = .ok (.invokevirtual 168, 3) := dk_182 0 168 (dk_at dksX0_breaks_1 19 rfl rfl)
theorem dX0_breaks_46 : decode cX0_breaks 46 = .ok (.ifCond .eq 5, 3) := dk_153 0 5 (dk_at dksX0_breaks_2 0 rfl rfl)
theorem dX0_breaks_49 : decode cX0_breaks 49 = .ok (.iconst 0, 1) := dk_3 (dk_at dksX0_breaks_2 3 rfl rfl)
theorem dX0_breaks_50 : decode cX0_breaks 50 = .ok (.ireturn, 1) := dk_172 (dk_at dksX0_breaks_2 4 rfl rfl)
theorem dX0_breaks_51 : decode cX0_breaks 51 = .ok (.aload_n 0, 1) := dk_42 (dk_at dksX0_breaks_2 5 rfl rfl)
theorem dX0_breaks_52 : decode cX0_breaks 52 = .ok (.invokevirtual 159, 3) := dk_182 0 159 (dk_at dksX0_breaks_2 6 rfl rfl)
theorem dX0_breaks_55 : decode cX0_breaks 55 = .ok (.pop, 1) := dk_87 (dk_at dksX0_breaks_2 9 rfl rfl)
theorem dX0_breaks_56 : decode cX0_breaks 56 = .ok (.aload_n 0, 1) := dk_42 (dk_at dksX0_breaks_2 10 rfl rfl)
theorem dX0_breaks_57 : decode cX0_breaks 57 = .ok (.getfield 20, 3) := dk_180 0 20 (dk_at dksX0_breaks_2 11 rfl rfl)
theorem dX0_breaks_60 : decode cX0_breaks 60 = .ok (.getfield 130, 3) := dk_180 0 130 (dk_at dksX0_breaks_2 14 rfl rfl)
theorem dX0_breaks_63 : decode cX0_breaks 63 = .ok (.iload_n 1, 1) := dk_27 (dk_at dksX0_breaks_2 17 rfl rfl)
theorem dX0_breaks_64 : decode cX0_breaks 64 = .ok (.aaload, 1) := dk_50 (dk_at dksX0_breaks_2 18 rfl rfl)
theorem dX0_breaks_65 : decode cX0_breaks 65 = .ok (.getfield 150, 3) := dk_180 0 150 (dk_at dksX0_breaks_2 19 rfl rfl)
theorem dX0_breaks_68 : decode cX0_breaks 68 = .ok (.istore_n 3, 1) := dk_62 (dk_at dksX0_breaks_2 22 rfl rfl)
theorem dX0_breaks_69 : decode cX0_breaks 69 = .ok (.aload_n 0, 1) := dk_42 (dk_at dksX0_breaks_2 23 rfl rfl)
theorem dX0_breaks_70 : decode cX0_breaks 70 = .ok (.getfield 20, 3) := dk_180 0 20 (dk_at dksX0_breaks_3 0 rfl rfl)
theorem dX0_breaks_73 : decode cX0_breaks 73 = .ok (.getfield 171, 3) := dk_180 0 171 (dk_at dksX0_breaks_3 3 rfl rfl)
theorem dX0_breaks_76 : decode cX0_breaks 76 = .ok (.iload_n 3, 1) := dk_29 (dk_at dksX0_breaks_3 6 rfl rfl)
theorem dX0_breaks_77 : decode cX0_breaks 77 = .ok (.iload_n 2, 1) := dk_28 (dk_at dksX0_breaks_3 7 rfl rfl)
theorem dX0_breaks_78 : decode cX0_breaks 78 = .ok (.iastore, 1) := dk_79 (dk_at dksX0_breaks_3 8 rfl rfl)
theorem dX0_breaks_79 : decode cX0_breaks 79 = .ok (.aload_n 0, 1) := dk_42 (dk_at dksX0_breaks_3 9 rfl rfl)
theorem dX0_breaks_80 : decode cX0_breaks 80 = .ok (.getfield 20, 3) := dk_180 0 20 (dk_at dksX0_breaks_3 10 rfl rfl)
theorem dX0_breaks_83 : decode cX0_breaks 83 = .ok (.getfield 173, 3) := dk_180 0 173 (dk_at dksX0_breaks_3 13 rfl rfl)
theorem dX0_breaks_86 : decode cX0_breaks 86 = .ok (.iload_n 3, 1) := dk_29 (dk_at dksX0_breaks_3 16 rfl rfl)
theorem dX0_breaks_87 : decode cX0_breaks 87 = .ok (.iconst 0, 1) := dk_3 (dk_at dksX0_breaks_3 17 rfl rfl)
theorem dX0_breaks_88 : decode cX0_breaks 88 = .ok (.iastore, 1) := dk_79 (dk_at dksX0_breaks_3 18 rfl rfl)
theorem dX0_breaks_89 : decode cX0_breaks 89 = .ok (.aload_n 0, 1) := dk_42 (dk_at dksX0_breaks_3 19 rfl rfl)
theorem dX0_breaks_90 : decode cX0_breaks 90 = .ok (.getfield 20, 3) := dk_180 0 20 (dk_at dksX0_breaks_3 20 rfl rfl)
theorem dX0_breaks_93 : decode cX0_breaks 93 = .ok (.getfield 175, 3) := dk_180 0 175 (dk_at dksX0_breaks_4 0 rfl rfl)
theorem dX0_breaks_96 : decode cX0_breaks 96 = .ok (.iload_n 3, 1) := dk_29 (dk_at dksX0_breaks_4 3 rfl rfl)
theorem dX0_breaks_97 : decode cX0_breaks 97 = .ok (.aload_n 0, 1) := dk_42 (dk_at dksX0_breaks_4 4 rfl rfl)
theorem dX0_breaks_98 : decode cX0_breaks 98 = .ok (.getfield 20, 3) := dk_180 0 20 (dk_at dksX0_breaks_4 5 rfl rfl)
theorem dX0_breaks_101 : decode cX0_breaks 101 = .ok (.getfield 178, 3) := dk_180 0 178 (dk_at dksX0_breaks_4 8 rfl rfl)
theorem dX0_breaks_104 : decode cX0_breaks 104 = .ok (.iastore, 1) := dk_79 (dk_at dksX0_breaks_4 11 rfl rfl)
theorem dX0_breaks_105 : decode cX0_breaks 105 = .ok (.aload_n 0, 1) := dk_42 (dk_at dksX0_breaks_4 12 rfl rfl)
theorem dX0_breaks_106 : decode cX0_breaks 106 = .ok (.getfield 20, 3) := dk_180 0 20 (dk_at dksX0_breaks_4 13 rfl rfl)
theorem dX0_breaks_109 : decode cX0_breaks 109 = .ok (.getfield 181, 3) := dk_180 0 181 (dk_at dksX0_breaks_4 16 rfl rfl)
theorem dX0_breaks_112 : decode cX0_breaks 112 = .ok (.iload_n 3, 1) := dk_29 (dk_at dksX0_breaks_4 19 rfl rfl)
theorem dX0_breaks_113 : decode cX0_breaks 113 = .ok (.iload_n 1, 1) := dk_27 (dk_at dksX0_breaks_4 20 rfl rfl)
theorem dX0_breaks_114 : decode cX0_breaks 114 = .ok (.iastore, 1) := dk_79 (dk_at dksX0_breaks_4 21 rfl rfl)
theorem dX0_breaks_115 : decode cX0_breaks 115 = .ok (.aload_n 0, 1) := dk_42 (dk_at dksX0_breaks_4 22 rfl rfl)
theorem dX0_breaks_116 : decode cX0_breaks 116 = .ok (.getfield 20, 3) := dk_180 0 20 (dk_at dksX0_breaks_5 0 rfl rfl)
theorem dX0_breaks_119 : decode cX0_breaks 119 = .ok (.getfield 184, 3) := dk_180 0 184 (dk_at dksX0_breaks_5 3 rfl rfl)
theorem dX0_breaks_122 : decode cX0_breaks 122 = .ok (.bipush 100, 2) := dk_16 100 (dk_at dksX0_breaks_5 6 rfl rfl)
theorem dX0_breaks_124 : decode cX0_breaks 124 = .ok (.if_icmp .ne 5, 3) := dk_160 0 5 (dk_at dksX0_breaks_5 8 rfl rfl)
theorem dX0_breaks_127 : decode cX0_breaks 127 = .ok (.iconst 1, 1) := dk_4 (dk_at dksX0_breaks_5 11 rfl rfl)
theorem dX0_breaks_128 : decode cX0_breaks 128 = .ok (.ireturn, 1) := dk_172 (dk_at dksX0_breaks_5 12 rfl rfl)
theorem dX0_breaks_129 : decode cX0_breaks 129 = .ok (.aload_n 0, 1) := dk_42 (dk_at dksX0_breaks_5 13 rfl rfl)
theorem dX0_breaks_130 : decode cX0_breaks 130 = .ok (.getfield 20, 3) := dk_180 0 20 (dk_at dksX0_breaks_5 14 rfl rfl)
theorem dX0_breaks_133 : decode cX0_breaks 133 = .ok (.getfield 187, 3) := dk_180 0 187 (dk_at dksX0_breaks_5 17 rfl rfl)
theorem dX0_breaks_136 : decode cX0_breaks 136 = .ok (.aload_n 0, 1) := dk_42 (dk_at dksX0_breaks_5 20 rfl rfl)
theorem dX0_breaks_137 : decode cX0_breaks 137 = .ok (.getfield 20, 3) := dk_180 0 20 (dk_at dksX0_breaks_5 21 rfl rfl)
theorem dX0_breaks_140 : decode cX0_breaks 140 = .ok (.getfield 184, 3) := dk_180 0 184 (dk_at dksX0_breaks_6 0 rfl rfl)
theorem dX0_breaks_143 : decode cX0_breaks 143 = .ok (.aaload, 1) := dk_50 (dk_at dksX0_breaks_6 3 rfl rfl)
theorem dX0_breaks_144 : decode cX0_breaks 144 = .ok (.astore 4, 2) := dk_58 4 (dk_at dksX0_breaks_6 4 rfl rfl)
theorem dX0_breaks_146 : decode cX0_breaks 146 = .ok (.aload 4, 2) := dk_25 4 (dk_at dksX0_breaks_6 6 rfl rfl)
theorem dX0_breaks_148 : decode cX0_breaks 148 = .ok (.iconst 0, 1) := dk_3 (dk_at dksX0_breaks_6 8 rfl rfl)
theorem dX0_breaks_149 : decode cX0_breaks 149 = .ok (.iload_n 1, 1) := dk_27 (dk_at dksX0_breaks_6 9 rfl rfl)
theorem dX0_breaks_150 : decode cX0_breaks 150 = .ok (.iastore, 1) := dk_79 (dk_at dksX0_breaks_6 10 rfl rfl)
theorem dX0_breaks_151 : decode cX0_breaks 151 = .ok (.aload 4, 2) := dk_25 4 (dk_at dksX0_breaks_6 11 rfl rfl)
theorem dX0_breaks_153 : decode cX0_breaks 153 = .ok (.iconst 1, 1) := dk_4 (dk_at dksX0_breaks_6 13 rfl rfl)
theorem dX0_breaks_154 : decode cX0_breaks 154 = .ok (.iload_n 3, 1) := dk_29 (dk_at dksX0_breaks_6 14 rfl rfl)
theorem dX0_breaks_155 : decode cX0_breaks 155 = .ok (.iastore, 1) := dk_79 (dk_at dksX0_breaks_6 15 rfl rfl)
theorem dX0_breaks_156 : decode cX0_breaks 156 = .ok (.aload 4, 2) := dk_25 4 (dk_at dksX0_breaks_6 16 rfl rfl)
theorem dX0_breaks_158 : decode cX0_breaks 158 = .ok (.iconst 2, 1) := dk_5 (dk_at dksX0_breaks_6 18 rfl rfl)
theorem dX0_breaks_159 : decode cX0_breaks 159 = .ok (.iload_n 2, 1) := dk_28 (dk_at dksX0_breaks_6 19 rfl rfl)
theorem dX0_breaks_160 : decode cX0_breaks 160 = .ok (.iastore, 1) := dk_79 (dk_at dksX0_breaks_6 20 rfl rfl)
theorem dX0_breaks_161 : decode cX0_breaks 161 = .ok (.aload 4, 2) := dk_25 4 (dk_at dksX0_breaks_6 21 rfl rfl)
theorem dX0_breaks_163 : decode cX0_breaks 163 = .ok (.iconst 3, 1) := dk_6 (dk_at dksX0_breaks_6 23 rfl rfl)
theorem dX0_breaks_164 : decode cX0_breaks 164 = .ok (.aload_n 0, 1) := dk_42 (dk_at dksX0_breaks_7 0 rfl rfl)
theorem dX0_breaks_165 : decode cX0_breaks 165 = .ok (.getfield 20, 3) := dk_180 0 20 (dk_at dksX0_breaks_7 1 rfl rfl)
theorem dX0_breaks_168 : decode cX0_breaks 168 = .ok (.getfield 178, 3) := dk_180 0 178 (dk_at dksX0_breaks_7 4 rfl rfl)
theorem dX0_breaks_171 : decode cX0_breaks 171 = .ok (.iastore, 1) := dk_79 (dk_at dksX0_breaks_7 7 rfl rfl)
theorem dX0_breaks_172 : decode cX0_breaks 172 = .ok (.aload_n 0, 1) := dk_42 (dk_at dksX0_breaks_7 8 rfl rfl)
theorem dX0_breaks_173 : decode cX0_breaks 173 = .ok (.getfield 20, 3) := dk_180 0 20 (dk_at dksX0_breaks_7 9 rfl rfl)
theorem dX0_breaks_176 : decode cX0_breaks 176 = .ok (.dup, 1) := dk_89 (dk_at dksX0_breaks_7 12 rfl rfl)
theorem dX0_breaks_177 : decode cX0_breaks 177 = .ok (.getfield 184, 3) := dk_180 0 184 (dk_at dksX0_breaks_7 13 rfl rfl)
theorem dX0_breaks_180 : decode cX0_breaks 180 = .ok (.iconst 1, 1) := dk_4 (dk_at dksX0_breaks_7 16 rfl rfl)
theorem dX0_breaks_181 : decode cX0_breaks 181 = .ok (.iadd, 1) := dk_96 (dk_at dksX0_breaks_7 17 rfl rfl)
theorem dX0_breaks_182 : decode cX0_breaks 182 = .ok (.putfield 184, 3) := dk_181 0 184 (dk_at dksX0_breaks_7 18 rfl rfl)
theorem dX0_breaks_185 : decode cX0_breaks 185 = .ok (.iconst 1, 1) := dk_4 (dk_at dksX0_breaks_7 21 rfl rfl)
theorem dX0_breaks_186 : decode cX0_breaks 186 = .ok (.ireturn, 1) := dk_172 (dk_at dksX0_breaks_7 22 rfl rfl)
abbrev cX0_isWord : ByteArray := prog_1_method_13_code
def yX0_isWord : MethodName := ⟨RX0, "isWord", "(I)Z"⟩
def dkwX0_isWord_0 : List UInt8 := [27, 3, 42, 180, 0, 20, 180, 0, 100, 4, 100, 184, 0, 50, 172]
abbrev dktX0_isWord_0 : List UInt8 := dkwX0_isWord_0 ++ []
theorem dksX0_isWord_0 : cX0_isWord.data.toList.drop 0 = dktX0_isWord_0 := by decide +kernel
theorem dX0_isWord_0 : decode cX0_isWord 0 = .ok (.iload_n 1, 1) := dk_27 (dk_at dksX0_isWord_0 0 rfl rfl)
theorem dX0_isWord_1 : decode cX0_isWord 1 = .ok (.iconst 0, 1) := dk_3 (dk_at dksX0_isWord_0 1 rfl rfl)
theorem dX0_isWord_2 : decode cX0_isWord 2 = .ok (.aload_n 0, 1) := dk_42 (dk_at dksX0_isWord_0 2 rfl rfl)
theorem dX0_isWord_3 : decode cX0_isWord 3 = .ok (.getfield 20, 3) := dk_180 0 20 (dk_at dksX0_isWord_0 3 rfl rfl)
theorem dX0_isWord_6 : decode cX0_isWord 6 = .ok (.getfield 100, 3) := dk_180 0 100 (dk_at dksX0_isWord_0 6 rfl rfl)
theorem dX0_isWord_9 : decode cX0_isWord 9 = .ok (.iconst 1, 1) := dk_4 (dk_at dksX0_isWord_0 9 rfl rfl)
theorem dX0_isWord_10 : decode cX0_isWord 10 = .ok (.isub, 1) := dk_100 (dk_at dksX0_isWord_0 10 rfl rfl)
theorem dX0_isWord_11 : decode cX0_isWord 11 = .ok (.invokestatic 50, 3) := dk_184 0 50 (dk_at dksX0_isWord_0 11 rfl rfl)
theorem dX0_isWord_14 : decode cX0_isWord 14 = .ok (.ireturn, 1) := dk_172 (dk_at dksX0_isWord_0 14 rfl rfl)
abbrev cX0_act : ByteArray := prog_1_method_23_code
def yX0_act : MethodName := ⟨RX0, "act", "(II)Z"⟩
def dkwX0_act_6 : List UInt8 := [180, 0, 150, 46, 96, 181, 0, 207, 42, 180, 0, 20, 180, 0, 171, 45, 180, 0, 150, 2, 79, 4, 172]
abbrev dktX0_act_6 : List UInt8 := dkwX0_act_6 ++ []
def dkwX0_act_5 : List UInt8 := [180, 0, 150, 46, 92, 46, 4, 96, 79, 45, 89, 180, 0, 207, 42, 180, 0, 20, 180, 0, 173, 45]
abbrev dktX0_act_5 : List UInt8 := dkwX0_act_5 ++ dktX0_act_6
def dkwX0_act_4 : List UInt8 := [45, 180, 0, 150, 182, 0, 200, 167, 0, 45, 45, 180, 0, 204, 42, 180, 0, 20, 180, 0, 171, 45]
abbrev dktX0_act_4 : List UInt8 := dkwX0_act_4 ++ dktX0_act_5
def dkwX0_act_3 : List UInt8 := [45, 180, 0, 150, 182, 0, 168, 154, 0, 5, 3, 172, 42, 182, 0, 159, 87, 28, 5, 160, 0, 15, 42, 45]
abbrev dktX0_act_3 : List UInt8 := dkwX0_act_3 ++ dktX0_act_4
def dkwX0_act_2 : List UInt8 := [42, 182, 0, 159, 87, 42, 180, 0, 20, 89, 180, 0, 197, 4, 96, 181, 0, 197, 4, 172, 42, 180, 0, 20]
abbrev dktX0_act_2 : List UInt8 := dkwX0_act_2 ++ dktX0_act_3
def dkwX0_act_1 : List UInt8 := [180, 0, 130, 27, 50, 78, 28, 154, 0, 37, 42, 180, 0, 20, 180, 0, 197, 16, 99, 160, 0, 5, 3, 172]
abbrev dktX0_act_1 : List UInt8 := dkwX0_act_1 ++ dktX0_act_2
def dkwX0_act_0 : List UInt8 := [42, 27, 182, 0, 147, 153, 0, 12, 28, 3, 5, 184, 0, 50, 154, 0, 5, 3, 172, 42, 180, 0, 20]
abbrev dktX0_act_0 : List UInt8 := dkwX0_act_0 ++ dktX0_act_1
theorem dksX0_act_0 : cX0_act.data.toList.drop 0 = dktX0_act_0 := by decide +kernel
theorem dksX0_act_1 : cX0_act.data.toList.drop 23 = dktX0_act_1 := dk_seg dksX0_act_0 23 rfl rfl
theorem dksX0_act_2 : cX0_act.data.toList.drop 47 = dktX0_act_2 := dk_seg dksX0_act_1 24 rfl rfl
theorem dksX0_act_3 : cX0_act.data.toList.drop 71 = dktX0_act_3 := dk_seg dksX0_act_2 24 rfl rfl
theorem dksX0_act_4 : cX0_act.data.toList.drop 95 = dktX0_act_4 := dk_seg dksX0_act_3 24 rfl rfl
theorem dksX0_act_5 : cX0_act.data.toList.drop 117 = dktX0_act_5 := dk_seg dksX0_act_4 22 rfl rfl
theorem dksX0_act_6 : cX0_act.data.toList.drop 139 = dktX0_act_6 := dk_seg dksX0_act_5 22 rfl rfl
theorem dX0_act_0 : decode cX0_act 0 = .ok (.aload_n 0, 1) := dk_42 (dk_at dksX0_act_0 0 rfl rfl)
theorem dX0_act_1 : decode cX0_act 1 = .ok (.iload_n 1, 1) := dk_27 (dk_at dksX0_act_0 1 rfl rfl)
theorem dX0_act_2 : decode cX0_act 2 = .ok (.invokevirtual 147, 3) := dk_182 0 147 (dk_at dksX0_act_0 2 rfl rfl)
theorem dX0_act_5 : decode cX0_act 5 = .ok (.ifCond .eq 12, 3) := dk_153 0 12 (dk_at dksX0_act_0 5 rfl rfl)
theorem dX0_act_8 : decode cX0_act 8 = .ok (.iload_n 2, 1) := dk_28 (dk_at dksX0_act_0 8 rfl rfl)
theorem dX0_act_9 : decode cX0_act 9 = .ok (.iconst 0, 1) := dk_3 (dk_at dksX0_act_0 9 rfl rfl)
theorem dX0_act_10 : decode cX0_act 10 = .ok (.iconst 2, 1) := dk_5 (dk_at dksX0_act_0 10 rfl rfl)
theorem dX0_act_11 : decode cX0_act 11 = .ok (.invokestatic 50, 3) := dk_184 0 50 (dk_at dksX0_act_0 11 rfl rfl)
theorem dX0_act_14 : decode cX0_act 14 = .ok (.ifCond .ne 5, 3) := dk_154 0 5 (dk_at dksX0_act_0 14 rfl rfl)
theorem dX0_act_17 : decode cX0_act 17 = .ok (.iconst 0, 1) := dk_3 (dk_at dksX0_act_0 17 rfl rfl)
theorem dX0_act_18 : decode cX0_act 18 = .ok (.ireturn, 1) := dk_172 (dk_at dksX0_act_0 18 rfl rfl)
theorem dX0_act_19 : decode cX0_act 19 = .ok (.aload_n 0, 1) := dk_42 (dk_at dksX0_act_0 19 rfl rfl)
theorem dX0_act_20 : decode cX0_act 20 = .ok (.getfield 20, 3) := dk_180 0 20 (dk_at dksX0_act_0 20 rfl rfl)
theorem dX0_act_23 : decode cX0_act 23 = .ok (.getfield 130, 3) := dk_180 0 130 (dk_at dksX0_act_1 0 rfl rfl)
theorem dX0_act_26 : decode cX0_act 26 = .ok (.iload_n 1, 1) := dk_27 (dk_at dksX0_act_1 3 rfl rfl)
theorem dX0_act_27 : decode cX0_act 27 = .ok (.aaload, 1) := dk_50 (dk_at dksX0_act_1 4 rfl rfl)
theorem dX0_act_28 : decode cX0_act 28 = .ok (.astore_n 3, 1) := dk_78 (dk_at dksX0_act_1 5 rfl rfl)
theorem dX0_act_29 : decode cX0_act 29 = .ok (.iload_n 2, 1) := dk_28 (dk_at dksX0_act_1 6 rfl rfl)
theorem dX0_act_30 : decode cX0_act 30 = .ok (.ifCond .ne 37, 3) := dk_154 0 37 (dk_at dksX0_act_1 7 rfl rfl)
theorem dX0_act_33 : decode cX0_act 33 = .ok (.aload_n 0, 1) := dk_42 (dk_at dksX0_act_1 10 rfl rfl)
theorem dX0_act_34 : decode cX0_act 34 = .ok (.getfield 20, 3) := dk_180 0 20 (dk_at dksX0_act_1 11 rfl rfl)
theorem dX0_act_37 : decode cX0_act 37 = .ok (.getfield 197, 3) := dk_180 0 197 (dk_at dksX0_act_1 14 rfl rfl)
theorem dX0_act_40 : decode cX0_act 40 = .ok (.bipush 99, 2) := dk_16 99 (dk_at dksX0_act_1 17 rfl rfl)
theorem dX0_act_42 : decode cX0_act 42 = .ok (.if_icmp .ne 5, 3) := dk_160 0 5 (dk_at dksX0_act_1 19 rfl rfl)
theorem dX0_act_45 : decode cX0_act 45 = .ok (.iconst 0, 1) := dk_3 (dk_at dksX0_act_1 22 rfl rfl)
theorem dX0_act_46 : decode cX0_act 46 = .ok (.ireturn, 1) := dk_172 (dk_at dksX0_act_1 23 rfl rfl)
theorem dX0_act_47 : decode cX0_act 47 = .ok (.aload_n 0, 1) := dk_42 (dk_at dksX0_act_2 0 rfl rfl)
theorem dX0_act_48 : decode cX0_act 48 = .ok (.invokevirtual 159, 3) := dk_182 0 159 (dk_at dksX0_act_2 1 rfl rfl)
theorem dX0_act_51 : decode cX0_act 51 = .ok (.pop, 1) := dk_87 (dk_at dksX0_act_2 4 rfl rfl)
theorem dX0_act_52 : decode cX0_act 52 = .ok (.aload_n 0, 1) := dk_42 (dk_at dksX0_act_2 5 rfl rfl)
theorem dX0_act_53 : decode cX0_act 53 = .ok (.getfield 20, 3) := dk_180 0 20 (dk_at dksX0_act_2 6 rfl rfl)
theorem dX0_act_56 : decode cX0_act 56 = .ok (.dup, 1) := dk_89 (dk_at dksX0_act_2 9 rfl rfl)
theorem dX0_act_57 : decode cX0_act 57 = .ok (.getfield 197, 3) := dk_180 0 197 (dk_at dksX0_act_2 10 rfl rfl)
theorem dX0_act_60 : decode cX0_act 60 = .ok (.iconst 1, 1) := dk_4 (dk_at dksX0_act_2 13 rfl rfl)
theorem dX0_act_61 : decode cX0_act 61 = .ok (.iadd, 1) := dk_96 (dk_at dksX0_act_2 14 rfl rfl)
theorem dX0_act_62 : decode cX0_act 62 = .ok (.putfield 197, 3) := dk_181 0 197 (dk_at dksX0_act_2 15 rfl rfl)
theorem dX0_act_65 : decode cX0_act 65 = .ok (.iconst 1, 1) := dk_4 (dk_at dksX0_act_2 18 rfl rfl)
theorem dX0_act_66 : decode cX0_act 66 = .ok (.ireturn, 1) := dk_172 (dk_at dksX0_act_2 19 rfl rfl)
theorem dX0_act_67 : decode cX0_act 67 = .ok (.aload_n 0, 1) := dk_42 (dk_at dksX0_act_2 20 rfl rfl)
theorem dX0_act_68 : decode cX0_act 68 = .ok (.getfield 20, 3) := dk_180 0 20 (dk_at dksX0_act_2 21 rfl rfl)
theorem dX0_act_71 : decode cX0_act 71 = .ok (.aload_n 3, 1) := dk_45 (dk_at dksX0_act_3 0 rfl rfl)
theorem dX0_act_72 : decode cX0_act 72 = .ok (.getfield 150, 3) := dk_180 0 150 (dk_at dksX0_act_3 1 rfl rfl)
theorem dX0_act_75 : decode cX0_act 75 = .ok (.invokevirtual 168, 3) := dk_182 0 168 (dk_at dksX0_act_3 4 rfl rfl)
theorem dX0_act_78 : decode cX0_act 78 = .ok (.ifCond .ne 5, 3) := dk_154 0 5 (dk_at dksX0_act_3 7 rfl rfl)
theorem dX0_act_81 : decode cX0_act 81 = .ok (.iconst 0, 1) := dk_3 (dk_at dksX0_act_3 10 rfl rfl)
theorem dX0_act_82 : decode cX0_act 82 = .ok (.ireturn, 1) := dk_172 (dk_at dksX0_act_3 11 rfl rfl)
theorem dX0_act_83 : decode cX0_act 83 = .ok (.aload_n 0, 1) := dk_42 (dk_at dksX0_act_3 12 rfl rfl)
theorem dX0_act_84 : decode cX0_act 84 = .ok (.invokevirtual 159, 3) := dk_182 0 159 (dk_at dksX0_act_3 13 rfl rfl)
theorem dX0_act_87 : decode cX0_act 87 = .ok (.pop, 1) := dk_87 (dk_at dksX0_act_3 16 rfl rfl)
theorem dX0_act_88 : decode cX0_act 88 = .ok (.iload_n 2, 1) := dk_28 (dk_at dksX0_act_3 17 rfl rfl)
theorem dX0_act_89 : decode cX0_act 89 = .ok (.iconst 2, 1) := dk_5 (dk_at dksX0_act_3 18 rfl rfl)
theorem dX0_act_90 : decode cX0_act 90 = .ok (.if_icmp .ne 15, 3) := dk_160 0 15 (dk_at dksX0_act_3 19 rfl rfl)
theorem dX0_act_93 : decode cX0_act 93 = .ok (.aload_n 0, 1) := dk_42 (dk_at dksX0_act_3 22 rfl rfl)
theorem dX0_act_94 : decode cX0_act 94 = .ok (.aload_n 3, 1) := dk_45 (dk_at dksX0_act_3 23 rfl rfl)
theorem dX0_act_95 : decode cX0_act 95 = .ok (.aload_n 3, 1) := dk_45 (dk_at dksX0_act_4 0 rfl rfl)
theorem dX0_act_96 : decode cX0_act 96 = .ok (.getfield 150, 3) := dk_180 0 150 (dk_at dksX0_act_4 1 rfl rfl)
theorem dX0_act_99 : decode cX0_act 99 = .ok (.invokevirtual 200, 3) := dk_182 0 200 (dk_at dksX0_act_4 4 rfl rfl)
theorem dX0_act_102 : decode cX0_act 102 = .ok (.goto 45, 3) := dk_167 0 45 (dk_at dksX0_act_4 7 rfl rfl)
theorem dX0_act_105 : decode cX0_act 105 = .ok (.aload_n 3, 1) := dk_45 (dk_at dksX0_act_4 10 rfl rfl)
theorem dX0_act_106 : decode cX0_act 106 = .ok (.getfield 204, 3) := dk_180 0 204 (dk_at dksX0_act_4 11 rfl rfl)
theorem dX0_act_109 : decode cX0_act 109 = .ok (.aload_n 0, 1) := dk_42 (dk_at dksX0_act_4 14 rfl rfl)
theorem dX0_act_110 : decode cX0_act 110 = .ok (.getfield 20, 3) := dk_180 0 20 (dk_at dksX0_act_4 15 rfl rfl)
theorem dX0_act_113 : decode cX0_act 113 = .ok (.getfield 171, 3) := dk_180 0 171 (dk_at dksX0_act_4 18 rfl rfl)
theorem dX0_act_116 : decode cX0_act 116 = .ok (.aload_n 3, 1) := dk_45 (dk_at dksX0_act_4 21 rfl rfl)
theorem dX0_act_117 : decode cX0_act 117 = .ok (.getfield 150, 3) := dk_180 0 150 (dk_at dksX0_act_5 0 rfl rfl)
theorem dX0_act_120 : decode cX0_act 120 = .ok (.iaload, 1) := dk_46 (dk_at dksX0_act_5 3 rfl rfl)
theorem dX0_act_121 : decode cX0_act 121 = .ok (.dup2, 1) := dk_92 (dk_at dksX0_act_5 4 rfl rfl)
theorem dX0_act_122 : decode cX0_act 122 = .ok (.iaload, 1) := dk_46 (dk_at dksX0_act_5 5 rfl rfl)
theorem dX0_act_123 : decode cX0_act 123 = .ok (.iconst 1, 1) := dk_4 (dk_at dksX0_act_5 6 rfl rfl)
theorem dX0_act_124 : decode cX0_act 124 = .ok (.iadd, 1) := dk_96 (dk_at dksX0_act_5 7 rfl rfl)
theorem dX0_act_125 : decode cX0_act 125 = .ok (.iastore, 1) := dk_79 (dk_at dksX0_act_5 8 rfl rfl)
theorem dX0_act_126 : decode cX0_act 126 = .ok (.aload_n 3, 1) := dk_45 (dk_at dksX0_act_5 9 rfl rfl)
theorem dX0_act_127 : decode cX0_act 127 = .ok (.dup, 1) := dk_89 (dk_at dksX0_act_5 10 rfl rfl)
theorem dX0_act_128 : decode cX0_act 128 = .ok (.getfield 207, 3) := dk_180 0 207 (dk_at dksX0_act_5 11 rfl rfl)
theorem dX0_act_131 : decode cX0_act 131 = .ok (.aload_n 0, 1) := dk_42 (dk_at dksX0_act_5 14 rfl rfl)
theorem dX0_act_132 : decode cX0_act 132 = .ok (.getfield 20, 3) := dk_180 0 20 (dk_at dksX0_act_5 15 rfl rfl)
theorem dX0_act_135 : decode cX0_act 135 = .ok (.getfield 173, 3) := dk_180 0 173 (dk_at dksX0_act_5 18 rfl rfl)
theorem dX0_act_138 : decode cX0_act 138 = .ok (.aload_n 3, 1) := dk_45 (dk_at dksX0_act_5 21 rfl rfl)
theorem dX0_act_139 : decode cX0_act 139 = .ok (.getfield 150, 3) := dk_180 0 150 (dk_at dksX0_act_6 0 rfl rfl)
theorem dX0_act_142 : decode cX0_act 142 = .ok (.iaload, 1) := dk_46 (dk_at dksX0_act_6 3 rfl rfl)
theorem dX0_act_143 : decode cX0_act 143 = .ok (.iadd, 1) := dk_96 (dk_at dksX0_act_6 4 rfl rfl)
theorem dX0_act_144 : decode cX0_act 144 = .ok (.putfield 207, 3) := dk_181 0 207 (dk_at dksX0_act_6 5 rfl rfl)
theorem dX0_act_147 : decode cX0_act 147 = .ok (.aload_n 0, 1) := dk_42 (dk_at dksX0_act_6 8 rfl rfl)
theorem dX0_act_148 : decode cX0_act 148 = .ok (.getfield 20, 3) := dk_180 0 20 (dk_at dksX0_act_6 9 rfl rfl)
theorem dX0_act_151 : decode cX0_act 151 = .ok (.getfield 171, 3) := dk_180 0 171 (dk_at dksX0_act_6 12 rfl rfl)
theorem dX0_act_154 : decode cX0_act 154 = .ok (.aload_n 3, 1) := dk_45 (dk_at dksX0_act_6 15 rfl rfl)
theorem dX0_act_155 : decode cX0_act 155 = .ok (.getfield 150, 3) := dk_180 0 150 (dk_at dksX0_act_6 16 rfl rfl)
theorem dX0_act_158 : decode cX0_act 158 = .ok (.iconst (-1), 1) := dk_2 (dk_at dksX0_act_6 19 rfl rfl)
theorem dX0_act_159 : decode cX0_act 159 = .ok (.iastore, 1) := dk_79 (dk_at dksX0_act_6 20 rfl rfl)
theorem dX0_act_160 : decode cX0_act 160 = .ok (.iconst 1, 1) := dk_4 (dk_at dksX0_act_6 21 rfl rfl)
theorem dX0_act_161 : decode cX0_act 161 = .ok (.ireturn, 1) := dk_172 (dk_at dksX0_act_6 22 rfl rfl)
abbrev cX0_eats : ByteArray := prog_1_method_22_code
def yX0_eats : MethodName := ⟨RX0, "eats", "(LLastWordWood$Person;I)V"⟩
def dkwX0_eats_3 : List UInt8 := [180, 0, 20, 180, 0, 127, 29, 46, 46, 158, 0, 13, 43, 89, 180, 0, 190, 5, 108, 181, 0, 190, 177]
abbrev dktX0_eats_3 : List UInt8 := dkwX0_eats_3 ++ []
def dkwX0_eats_2 : List UInt8 := [181, 0, 190, 42, 180, 0, 20, 180, 0, 127, 29, 46, 2, 159, 0, 33, 42, 180, 0, 20, 180, 0, 124, 42]
abbrev dktX0_eats_2 : List UInt8 := dkwX0_eats_2 ++ dktX0_eats_3
def dkwX0_eats_1 : List UInt8 := [29, 46, 42, 180, 0, 20, 180, 0, 173, 28, 46, 104, 16, 9, 96, 16, 10, 108, 96, 184, 0, 193]
abbrev dktX0_eats_1 : List UInt8 := dkwX0_eats_1 ++ dktX0_eats_2
def dkwX0_eats_0 : List UInt8 := [42, 180, 0, 20, 180, 0, 171, 28, 46, 62, 43, 16, 99, 43, 180, 0, 190, 42, 180, 0, 20, 180, 0, 124]
abbrev dktX0_eats_0 : List UInt8 := dkwX0_eats_0 ++ dktX0_eats_1
theorem dksX0_eats_0 : cX0_eats.data.toList.drop 0 = dktX0_eats_0 := by decide +kernel
theorem dksX0_eats_1 : cX0_eats.data.toList.drop 24 = dktX0_eats_1 := dk_seg dksX0_eats_0 24 rfl rfl
theorem dksX0_eats_2 : cX0_eats.data.toList.drop 46 = dktX0_eats_2 := dk_seg dksX0_eats_1 22 rfl rfl
theorem dksX0_eats_3 : cX0_eats.data.toList.drop 70 = dktX0_eats_3 := dk_seg dksX0_eats_2 24 rfl rfl
theorem dX0_eats_0 : decode cX0_eats 0 = .ok (.aload_n 0, 1) := dk_42 (dk_at dksX0_eats_0 0 rfl rfl)
theorem dX0_eats_1 : decode cX0_eats 1 = .ok (.getfield 20, 3) := dk_180 0 20 (dk_at dksX0_eats_0 1 rfl rfl)
theorem dX0_eats_4 : decode cX0_eats 4 = .ok (.getfield 171, 3) := dk_180 0 171 (dk_at dksX0_eats_0 4 rfl rfl)
theorem dX0_eats_7 : decode cX0_eats 7 = .ok (.iload_n 2, 1) := dk_28 (dk_at dksX0_eats_0 7 rfl rfl)
theorem dX0_eats_8 : decode cX0_eats 8 = .ok (.iaload, 1) := dk_46 (dk_at dksX0_eats_0 8 rfl rfl)
theorem dX0_eats_9 : decode cX0_eats 9 = .ok (.istore_n 3, 1) := dk_62 (dk_at dksX0_eats_0 9 rfl rfl)
theorem dX0_eats_10 : decode cX0_eats 10 = .ok (.aload_n 1, 1) := dk_43 (dk_at dksX0_eats_0 10 rfl rfl)
theorem dX0_eats_11 : decode cX0_eats 11 = .ok (.bipush 99, 2) := dk_16 99 (dk_at dksX0_eats_0 11 rfl rfl)
theorem dX0_eats_13 : decode cX0_eats 13 = .ok (.aload_n 1, 1) := dk_43 (dk_at dksX0_eats_0 13 rfl rfl)
theorem dX0_eats_14 : decode cX0_eats 14 = .ok (.getfield 190, 3) := dk_180 0 190 (dk_at dksX0_eats_0 14 rfl rfl)
theorem dX0_eats_17 : decode cX0_eats 17 = .ok (.aload_n 0, 1) := dk_42 (dk_at dksX0_eats_0 17 rfl rfl)
theorem dX0_eats_18 : decode cX0_eats 18 = .ok (.getfield 20, 3) := dk_180 0 20 (dk_at dksX0_eats_0 18 rfl rfl)
theorem dX0_eats_21 : decode cX0_eats 21 = .ok (.getfield 124, 3) := dk_180 0 124 (dk_at dksX0_eats_0 21 rfl rfl)
theorem dX0_eats_24 : decode cX0_eats 24 = .ok (.iload_n 3, 1) := dk_29 (dk_at dksX0_eats_1 0 rfl rfl)
theorem dX0_eats_25 : decode cX0_eats 25 = .ok (.iaload, 1) := dk_46 (dk_at dksX0_eats_1 1 rfl rfl)
theorem dX0_eats_26 : decode cX0_eats 26 = .ok (.aload_n 0, 1) := dk_42 (dk_at dksX0_eats_1 2 rfl rfl)
theorem dX0_eats_27 : decode cX0_eats 27 = .ok (.getfield 20, 3) := dk_180 0 20 (dk_at dksX0_eats_1 3 rfl rfl)
theorem dX0_eats_30 : decode cX0_eats 30 = .ok (.getfield 173, 3) := dk_180 0 173 (dk_at dksX0_eats_1 6 rfl rfl)
theorem dX0_eats_33 : decode cX0_eats 33 = .ok (.iload_n 2, 1) := dk_28 (dk_at dksX0_eats_1 9 rfl rfl)
theorem dX0_eats_34 : decode cX0_eats 34 = .ok (.iaload, 1) := dk_46 (dk_at dksX0_eats_1 10 rfl rfl)
theorem dX0_eats_35 : decode cX0_eats 35 = .ok (.imul, 1) := dk_104 (dk_at dksX0_eats_1 11 rfl rfl)
theorem dX0_eats_36 : decode cX0_eats 36 = .ok (.bipush 9, 2) := dk_16 9 (dk_at dksX0_eats_1 12 rfl rfl)
theorem dX0_eats_38 : decode cX0_eats 38 = .ok (.iadd, 1) := dk_96 (dk_at dksX0_eats_1 14 rfl rfl)
theorem dX0_eats_39 : decode cX0_eats 39 = .ok (.bipush 10, 2) := dk_16 10 (dk_at dksX0_eats_1 15 rfl rfl)
theorem dX0_eats_41 : decode cX0_eats 41 = .ok (.idiv, 1) := dk_108 (dk_at dksX0_eats_1 17 rfl rfl)
theorem dX0_eats_42 : decode cX0_eats 42 = .ok (.iadd, 1) := dk_96 (dk_at dksX0_eats_1 18 rfl rfl)
theorem dX0_eats_43 : decode cX0_eats 43 = .ok (.invokestatic 193, 3) := dk_184 0 193 (dk_at dksX0_eats_1 19 rfl rfl)
theorem dX0_eats_46 : decode cX0_eats 46 = .ok (.putfield 190, 3) := dk_181 0 190 (dk_at dksX0_eats_2 0 rfl rfl)
theorem dX0_eats_49 : decode cX0_eats 49 = .ok (.aload_n 0, 1) := dk_42 (dk_at dksX0_eats_2 3 rfl rfl)
theorem dX0_eats_50 : decode cX0_eats 50 = .ok (.getfield 20, 3) := dk_180 0 20 (dk_at dksX0_eats_2 4 rfl rfl)
theorem dX0_eats_53 : decode cX0_eats 53 = .ok (.getfield 127, 3) := dk_180 0 127 (dk_at dksX0_eats_2 7 rfl rfl)
theorem dX0_eats_56 : decode cX0_eats 56 = .ok (.iload_n 3, 1) := dk_29 (dk_at dksX0_eats_2 10 rfl rfl)
theorem dX0_eats_57 : decode cX0_eats 57 = .ok (.iaload, 1) := dk_46 (dk_at dksX0_eats_2 11 rfl rfl)
theorem dX0_eats_58 : decode cX0_eats 58 = .ok (.iconst (-1), 1) := dk_2 (dk_at dksX0_eats_2 12 rfl rfl)
theorem dX0_eats_59 : decode cX0_eats 59 = .ok (.if_icmp .eq 33, 3) := dk_159 0 33 (dk_at dksX0_eats_2 13 rfl rfl)
theorem dX0_eats_62 : decode cX0_eats 62 = .ok (.aload_n 0, 1) := dk_42 (dk_at dksX0_eats_2 16 rfl rfl)
theorem dX0_eats_63 : decode cX0_eats 63 = .ok (.getfield 20, 3) := dk_180 0 20 (dk_at dksX0_eats_2 17 rfl rfl)
theorem dX0_eats_66 : decode cX0_eats 66 = .ok (.getfield 124, 3) := dk_180 0 124 (dk_at dksX0_eats_2 20 rfl rfl)
theorem dX0_eats_69 : decode cX0_eats 69 = .ok (.aload_n 0, 1) := dk_42 (dk_at dksX0_eats_2 23 rfl rfl)
theorem dX0_eats_70 : decode cX0_eats 70 = .ok (.getfield 20, 3) := dk_180 0 20 (dk_at dksX0_eats_3 0 rfl rfl)
theorem dX0_eats_73 : decode cX0_eats 73 = .ok (.getfield 127, 3) := dk_180 0 127 (dk_at dksX0_eats_3 3 rfl rfl)
theorem dX0_eats_76 : decode cX0_eats 76 = .ok (.iload_n 3, 1) := dk_29 (dk_at dksX0_eats_3 6 rfl rfl)
theorem dX0_eats_77 : decode cX0_eats 77 = .ok (.iaload, 1) := dk_46 (dk_at dksX0_eats_3 7 rfl rfl)
theorem dX0_eats_78 : decode cX0_eats 78 = .ok (.iaload, 1) := dk_46 (dk_at dksX0_eats_3 8 rfl rfl)
theorem dX0_eats_79 : decode cX0_eats 79 = .ok (.ifCond .le 13, 3) := dk_158 0 13 (dk_at dksX0_eats_3 9 rfl rfl)
theorem dX0_eats_82 : decode cX0_eats 82 = .ok (.aload_n 1, 1) := dk_43 (dk_at dksX0_eats_3 12 rfl rfl)
theorem dX0_eats_83 : decode cX0_eats 83 = .ok (.dup, 1) := dk_89 (dk_at dksX0_eats_3 13 rfl rfl)
theorem dX0_eats_84 : decode cX0_eats 84 = .ok (.getfield 190, 3) := dk_180 0 190 (dk_at dksX0_eats_3 14 rfl rfl)
theorem dX0_eats_87 : decode cX0_eats 87 = .ok (.iconst 2, 1) := dk_5 (dk_at dksX0_eats_3 17 rfl rfl)
theorem dX0_eats_88 : decode cX0_eats 88 = .ok (.idiv, 1) := dk_108 (dk_at dksX0_eats_3 18 rfl rfl)
theorem dX0_eats_89 : decode cX0_eats 89 = .ok (.putfield 190, 3) := dk_181 0 190 (dk_at dksX0_eats_3 19 rfl rfl)
theorem dX0_eats_92 : decode cX0_eats 92 = .ok (.return_, 1) := dk_177 (dk_at dksX0_eats_3 22 rfl rfl)
abbrev cX0_days : ByteArray := prog_1_method_24_code
def yX0_days : MethodName := ⟨RX0, "days", "(I)I"⟩
def dkwX0_days_2 : List UInt8 := [132, 3, 1, 167, 255, 238, 42, 182, 0, 110, 87, 28, 172]
abbrev dktX0_days_2 : List UInt8 := dkwX0_days_2 ++ []
def dkwX0_days_1 : List UInt8 := [164, 0, 5, 2, 172, 3, 61, 3, 62, 29, 27, 162, 0, 19, 28, 42, 180, 0, 20, 182, 0, 210, 96, 61]
abbrev dktX0_days_1 : List UInt8 := dkwX0_days_1 ++ dktX0_days_2
def dkwX0_days_0 : List UInt8 := [27, 4, 16, 100, 184, 0, 50, 153, 0, 18, 42, 180, 0, 20, 180, 0, 178, 27, 96, 17, 39, 15]
abbrev dktX0_days_0 : List UInt8 := dkwX0_days_0 ++ dktX0_days_1
theorem dksX0_days_0 : cX0_days.data.toList.drop 0 = dktX0_days_0 := by decide +kernel
theorem dksX0_days_1 : cX0_days.data.toList.drop 22 = dktX0_days_1 := dk_seg dksX0_days_0 22 rfl rfl
theorem dksX0_days_2 : cX0_days.data.toList.drop 46 = dktX0_days_2 := dk_seg dksX0_days_1 24 rfl rfl
theorem dX0_days_0 : decode cX0_days 0 = .ok (.iload_n 1, 1) := dk_27 (dk_at dksX0_days_0 0 rfl rfl)
theorem dX0_days_1 : decode cX0_days 1 = .ok (.iconst 1, 1) := dk_4 (dk_at dksX0_days_0 1 rfl rfl)
theorem dX0_days_2 : decode cX0_days 2 = .ok (.bipush 100, 2) := dk_16 100 (dk_at dksX0_days_0 2 rfl rfl)
theorem dX0_days_4 : decode cX0_days 4 = .ok (.invokestatic 50, 3) := dk_184 0 50 (dk_at dksX0_days_0 4 rfl rfl)
theorem dX0_days_7 : decode cX0_days 7 = .ok (.ifCond .eq 18, 3) := dk_153 0 18 (dk_at dksX0_days_0 7 rfl rfl)
theorem dX0_days_10 : decode cX0_days 10 = .ok (.aload_n 0, 1) := dk_42 (dk_at dksX0_days_0 10 rfl rfl)
theorem dX0_days_11 : decode cX0_days 11 = .ok (.getfield 20, 3) := dk_180 0 20 (dk_at dksX0_days_0 11 rfl rfl)
theorem dX0_days_14 : decode cX0_days 14 = .ok (.getfield 178, 3) := dk_180 0 178 (dk_at dksX0_days_0 14 rfl rfl)
theorem dX0_days_17 : decode cX0_days 17 = .ok (.iload_n 1, 1) := dk_27 (dk_at dksX0_days_0 17 rfl rfl)
theorem dX0_days_18 : decode cX0_days 18 = .ok (.iadd, 1) := dk_96 (dk_at dksX0_days_0 18 rfl rfl)
theorem dX0_days_19 : decode cX0_days 19 = .ok (.sipush 9999, 3) := dk_17 39 15 (dk_at dksX0_days_0 19 rfl rfl)
theorem dX0_days_22 : decode cX0_days 22 = .ok (.if_icmp .le 5, 3) := dk_164 0 5 (dk_at dksX0_days_1 0 rfl rfl)
theorem dX0_days_25 : decode cX0_days 25 = .ok (.iconst (-1), 1) := dk_2 (dk_at dksX0_days_1 3 rfl rfl)
theorem dX0_days_26 : decode cX0_days 26 = .ok (.ireturn, 1) := dk_172 (dk_at dksX0_days_1 4 rfl rfl)
theorem dX0_days_27 : decode cX0_days 27 = .ok (.iconst 0, 1) := dk_3 (dk_at dksX0_days_1 5 rfl rfl)
theorem dX0_days_28 : decode cX0_days 28 = .ok (.istore_n 2, 1) := dk_61 (dk_at dksX0_days_1 6 rfl rfl)
theorem dX0_days_29 : decode cX0_days 29 = .ok (.iconst 0, 1) := dk_3 (dk_at dksX0_days_1 7 rfl rfl)
theorem dX0_days_30 : decode cX0_days 30 = .ok (.istore_n 3, 1) := dk_62 (dk_at dksX0_days_1 8 rfl rfl)
theorem dX0_days_31 : decode cX0_days 31 = .ok (.iload_n 3, 1) := dk_29 (dk_at dksX0_days_1 9 rfl rfl)
theorem dX0_days_32 : decode cX0_days 32 = .ok (.iload_n 1, 1) := dk_27 (dk_at dksX0_days_1 10 rfl rfl)
theorem dX0_days_33 : decode cX0_days 33 = .ok (.if_icmp .ge 19, 3) := dk_162 0 19 (dk_at dksX0_days_1 11 rfl rfl)
theorem dX0_days_36 : decode cX0_days 36 = .ok (.iload_n 2, 1) := dk_28 (dk_at dksX0_days_1 14 rfl rfl)
theorem dX0_days_37 : decode cX0_days 37 = .ok (.aload_n 0, 1) := dk_42 (dk_at dksX0_days_1 15 rfl rfl)
theorem dX0_days_38 : decode cX0_days 38 = .ok (.getfield 20, 3) := dk_180 0 20 (dk_at dksX0_days_1 16 rfl rfl)
theorem dX0_days_41 : decode cX0_days 41 = .ok (.invokevirtual 210, 3) := dk_182 0 210 (dk_at dksX0_days_1 19 rfl rfl)
theorem dX0_days_44 : decode cX0_days 44 = .ok (.iadd, 1) := dk_96 (dk_at dksX0_days_1 22 rfl rfl)
theorem dX0_days_45 : decode cX0_days 45 = .ok (.istore_n 2, 1) := dk_61 (dk_at dksX0_days_1 23 rfl rfl)
theorem dX0_days_46 : decode cX0_days 46 = .ok (.iinc 3 1, 3) := dk_132 3 1 (dk_at dksX0_days_2 0 rfl rfl)
theorem dX0_days_49 : decode cX0_days 49 = .ok (.goto (-18), 3) := dk_167 255 238 (dk_at dksX0_days_2 3 rfl rfl)
theorem dX0_days_52 : decode cX0_days 52 = .ok (.aload_n 0, 1) := dk_42 (dk_at dksX0_days_2 6 rfl rfl)
theorem dX0_days_53 : decode cX0_days 53 = .ok (.invokevirtual 110, 3) := dk_182 0 110 (dk_at dksX0_days_2 7 rfl rfl)
theorem dX0_days_56 : decode cX0_days 56 = .ok (.pop, 1) := dk_87 (dk_at dksX0_days_2 10 rfl rfl)
theorem dX0_days_57 : decode cX0_days 57 = .ok (.iload_n 2, 1) := dk_28 (dk_at dksX0_days_2 11 rfl rfl)
theorem dX0_days_58 : decode cX0_days 58 = .ok (.ireturn, 1) := dk_172 (dk_at dksX0_days_2 12 rfl rfl)
abbrev cX0_far : ByteArray := prog_1_method_8_code
def yX0_far : MethodName := ⟨RX0, "far", "(II)I"⟩
def dkwX0_far_1 : List UInt8 := [96, 172]
abbrev dktX0_far_1 : List UInt8 := dkwX0_far_1 ++ []
def dkwX0_far_0 : List UInt8 := [26, 16, 8, 112, 27, 16, 8, 112, 100, 184, 0, 84, 26, 16, 8, 108, 27, 16, 8, 108, 100, 184, 0, 84]
abbrev dktX0_far_0 : List UInt8 := dkwX0_far_0 ++ dktX0_far_1
theorem dksX0_far_0 : cX0_far.data.toList.drop 0 = dktX0_far_0 := by decide +kernel
theorem dksX0_far_1 : cX0_far.data.toList.drop 24 = dktX0_far_1 := dk_seg dksX0_far_0 24 rfl rfl
theorem dX0_far_0 : decode cX0_far 0 = .ok (.iload_n 0, 1) := dk_26 (dk_at dksX0_far_0 0 rfl rfl)
theorem dX0_far_1 : decode cX0_far 1 = .ok (.bipush 8, 2) := dk_16 8 (dk_at dksX0_far_0 1 rfl rfl)
theorem dX0_far_3 : decode cX0_far 3 = .ok (.irem, 1) := dk_112 (dk_at dksX0_far_0 3 rfl rfl)
theorem dX0_far_4 : decode cX0_far 4 = .ok (.iload_n 1, 1) := dk_27 (dk_at dksX0_far_0 4 rfl rfl)
theorem dX0_far_5 : decode cX0_far 5 = .ok (.bipush 8, 2) := dk_16 8 (dk_at dksX0_far_0 5 rfl rfl)
theorem dX0_far_7 : decode cX0_far 7 = .ok (.irem, 1) := dk_112 (dk_at dksX0_far_0 7 rfl rfl)
theorem dX0_far_8 : decode cX0_far 8 = .ok (.isub, 1) := dk_100 (dk_at dksX0_far_0 8 rfl rfl)
theorem dX0_far_9 : decode cX0_far 9 = .ok (.invokestatic 84, 3) := dk_184 0 84 (dk_at dksX0_far_0 9 rfl rfl)
theorem dX0_far_12 : decode cX0_far 12 = .ok (.iload_n 0, 1) := dk_26 (dk_at dksX0_far_0 12 rfl rfl)
theorem dX0_far_13 : decode cX0_far 13 = .ok (.bipush 8, 2) := dk_16 8 (dk_at dksX0_far_0 13 rfl rfl)
theorem dX0_far_15 : decode cX0_far 15 = .ok (.idiv, 1) := dk_108 (dk_at dksX0_far_0 15 rfl rfl)
theorem dX0_far_16 : decode cX0_far 16 = .ok (.iload_n 1, 1) := dk_27 (dk_at dksX0_far_0 16 rfl rfl)
theorem dX0_far_17 : decode cX0_far 17 = .ok (.bipush 8, 2) := dk_16 8 (dk_at dksX0_far_0 17 rfl rfl)
theorem dX0_far_19 : decode cX0_far 19 = .ok (.idiv, 1) := dk_108 (dk_at dksX0_far_0 19 rfl rfl)
theorem dX0_far_20 : decode cX0_far 20 = .ok (.isub, 1) := dk_100 (dk_at dksX0_far_0 20 rfl rfl)
theorem dX0_far_21 : decode cX0_far 21 = .ok (.invokestatic 84, 3) := dk_184 0 84 (dk_at dksX0_far_0 21 rfl rfl)
theorem dX0_far_24 : decode cX0_far 24 = .ok (.iadd, 1) := dk_96 (dk_at dksX0_far_1 0 rfl rfl)
theorem dX0_far_25 : decode cX0_far 25 = .ok (.ireturn, 1) := dk_172 (dk_at dksX0_far_1 1 rfl rfl)
abbrev cX0_at : ByteArray := prog_1_method_25_code
def yX0_at : MethodName := ⟨RX0, "at", "(II)I"⟩
def dkwX0_at_5 : List UInt8 := [46, 172, 42, 180, 0, 20, 27, 182, 0, 213, 172]
abbrev dktX0_at_5 : List UInt8 := dkwX0_at_5 ++ []
def dkwX0_at_4 : List UInt8 := [180, 0, 173, 27, 46, 172, 42, 180, 0, 20, 180, 0, 175, 27, 46, 172, 42, 180, 0, 20, 180, 0, 181, 27]
abbrev dktX0_at_4 : List UInt8 := dkwX0_at_4 ++ dktX0_at_5
def dkwX0_at_3 : List UInt8 := [42, 180, 0, 20, 180, 0, 118, 27, 46, 172, 42, 180, 0, 20, 180, 0, 171, 27, 46, 172, 42, 180, 0, 20]
abbrev dktX0_at_3 : List UInt8 := dkwX0_at_3 ++ dktX0_at_4
def dkwX0_at_2 : List UInt8 := [170, 0, 0, 0, 0, 0, 0, 86, 0, 0, 0, 0, 0, 0, 0, 4, 0, 0, 0, 36, 0, 0, 0, 46, 0, 0, 0, 56, 0, 0, 0, 66, 0, 0, 0, 76]
abbrev dktX0_at_2 : List UInt8 := dkwX0_at_2 ++ dktX0_at_3
def dkwX0_at_1 : List UInt8 := [42, 180, 0, 20, 27, 182, 0, 168, 154, 0, 7, 17, 252, 24, 172, 28]
abbrev dktX0_at_1 : List UInt8 := dkwX0_at_1 ++ dktX0_at_2
def dkwX0_at_0 : List UInt8 := [42, 180, 0, 20, 27, 182, 0, 114, 153, 0, 27, 28, 3, 8, 184, 0, 50, 153, 0, 18, 28, 158, 0, 18]
abbrev dktX0_at_0 : List UInt8 := dkwX0_at_0 ++ dktX0_at_1
theorem dksX0_at_0 : cX0_at.data.toList.drop 0 = dktX0_at_0 := by decide +kernel
theorem dksX0_at_1 : cX0_at.data.toList.drop 24 = dktX0_at_1 := dk_seg dksX0_at_0 24 rfl rfl
theorem dksX0_at_2 : cX0_at.data.toList.drop 40 = dktX0_at_2 := dk_seg dksX0_at_1 16 rfl rfl
theorem dksX0_at_3 : cX0_at.data.toList.drop 76 = dktX0_at_3 := dk_seg dksX0_at_2 36 rfl rfl
theorem dksX0_at_4 : cX0_at.data.toList.drop 100 = dktX0_at_4 := dk_seg dksX0_at_3 24 rfl rfl
theorem dksX0_at_5 : cX0_at.data.toList.drop 124 = dktX0_at_5 := dk_seg dksX0_at_4 24 rfl rfl
theorem dX0_at_0 : decode cX0_at 0 = .ok (.aload_n 0, 1) := dk_42 (dk_at dksX0_at_0 0 rfl rfl)
theorem dX0_at_1 : decode cX0_at 1 = .ok (.getfield 20, 3) := dk_180 0 20 (dk_at dksX0_at_0 1 rfl rfl)
theorem dX0_at_4 : decode cX0_at 4 = .ok (.iload_n 1, 1) := dk_27 (dk_at dksX0_at_0 4 rfl rfl)
theorem dX0_at_5 : decode cX0_at 5 = .ok (.invokevirtual 114, 3) := dk_182 0 114 (dk_at dksX0_at_0 5 rfl rfl)
theorem dX0_at_8 : decode cX0_at 8 = .ok (.ifCond .eq 27, 3) := dk_153 0 27 (dk_at dksX0_at_0 8 rfl rfl)
theorem dX0_at_11 : decode cX0_at 11 = .ok (.iload_n 2, 1) := dk_28 (dk_at dksX0_at_0 11 rfl rfl)
theorem dX0_at_12 : decode cX0_at 12 = .ok (.iconst 0, 1) := dk_3 (dk_at dksX0_at_0 12 rfl rfl)
theorem dX0_at_13 : decode cX0_at 13 = .ok (.iconst 5, 1) := dk_8 (dk_at dksX0_at_0 13 rfl rfl)
theorem dX0_at_14 : decode cX0_at 14 = .ok (.invokestatic 50, 3) := dk_184 0 50 (dk_at dksX0_at_0 14 rfl rfl)
theorem dX0_at_17 : decode cX0_at 17 = .ok (.ifCond .eq 18, 3) := dk_153 0 18 (dk_at dksX0_at_0 17 rfl rfl)
theorem dX0_at_20 : decode cX0_at 20 = .ok (.iload_n 2, 1) := dk_28 (dk_at dksX0_at_0 20 rfl rfl)
theorem dX0_at_21 : decode cX0_at 21 = .ok (.ifCond .le 18, 3) := dk_158 0 18 (dk_at dksX0_at_0 21 rfl rfl)
theorem dX0_at_24 : decode cX0_at 24 = .ok (.aload_n 0, 1) := dk_42 (dk_at dksX0_at_1 0 rfl rfl)
theorem dX0_at_25 : decode cX0_at 25 = .ok (.getfield 20, 3) := dk_180 0 20 (dk_at dksX0_at_1 1 rfl rfl)
theorem dX0_at_28 : decode cX0_at 28 = .ok (.iload_n 1, 1) := dk_27 (dk_at dksX0_at_1 4 rfl rfl)
theorem dX0_at_29 : decode cX0_at 29 = .ok (.invokevirtual 168, 3) := dk_182 0 168 (dk_at dksX0_at_1 5 rfl rfl)
theorem dX0_at_32 : decode cX0_at 32 = .ok (.ifCond .ne 7, 3) := dk_154 0 7 (dk_at dksX0_at_1 8 rfl rfl)
theorem dX0_at_35 : decode cX0_at 35 = .ok (.sipush (-1000), 3) := dk_17 252 24 (dk_at dksX0_at_1 11 rfl rfl)
theorem dX0_at_38 : decode cX0_at 38 = .ok (.ireturn, 1) := dk_172 (dk_at dksX0_at_1 14 rfl rfl)
theorem dX0_at_39 : decode cX0_at 39 = .ok (.iload_n 2, 1) := dk_28 (dk_at dksX0_at_1 15 rfl rfl)
theorem dX0_at_40 : decode cX0_at 40 = .ok (.tableswitch 86 0 4 #[36, 46, 56, 66, 76], 36) := by decide +kernel
theorem dX0_at_76 : decode cX0_at 76 = .ok (.aload_n 0, 1) := dk_42 (dk_at dksX0_at_3 0 rfl rfl)
theorem dX0_at_77 : decode cX0_at 77 = .ok (.getfield 20, 3) := dk_180 0 20 (dk_at dksX0_at_3 1 rfl rfl)
theorem dX0_at_80 : decode cX0_at 80 = .ok (.getfield 118, 3) := dk_180 0 118 (dk_at dksX0_at_3 4 rfl rfl)
theorem dX0_at_83 : decode cX0_at 83 = .ok (.iload_n 1, 1) := dk_27 (dk_at dksX0_at_3 7 rfl rfl)
theorem dX0_at_84 : decode cX0_at 84 = .ok (.iaload, 1) := dk_46 (dk_at dksX0_at_3 8 rfl rfl)
theorem dX0_at_85 : decode cX0_at 85 = .ok (.ireturn, 1) := dk_172 (dk_at dksX0_at_3 9 rfl rfl)
theorem dX0_at_86 : decode cX0_at 86 = .ok (.aload_n 0, 1) := dk_42 (dk_at dksX0_at_3 10 rfl rfl)
theorem dX0_at_87 : decode cX0_at 87 = .ok (.getfield 20, 3) := dk_180 0 20 (dk_at dksX0_at_3 11 rfl rfl)
theorem dX0_at_90 : decode cX0_at 90 = .ok (.getfield 171, 3) := dk_180 0 171 (dk_at dksX0_at_3 14 rfl rfl)
theorem dX0_at_93 : decode cX0_at 93 = .ok (.iload_n 1, 1) := dk_27 (dk_at dksX0_at_3 17 rfl rfl)
theorem dX0_at_94 : decode cX0_at 94 = .ok (.iaload, 1) := dk_46 (dk_at dksX0_at_3 18 rfl rfl)
theorem dX0_at_95 : decode cX0_at 95 = .ok (.ireturn, 1) := dk_172 (dk_at dksX0_at_3 19 rfl rfl)
theorem dX0_at_96 : decode cX0_at 96 = .ok (.aload_n 0, 1) := dk_42 (dk_at dksX0_at_3 20 rfl rfl)
theorem dX0_at_97 : decode cX0_at 97 = .ok (.getfield 20, 3) := dk_180 0 20 (dk_at dksX0_at_3 21 rfl rfl)
theorem dX0_at_100 : decode cX0_at 100 = .ok (.getfield 173, 3) := dk_180 0 173 (dk_at dksX0_at_4 0 rfl rfl)
theorem dX0_at_103 : decode cX0_at 103 = .ok (.iload_n 1, 1) := dk_27 (dk_at dksX0_at_4 3 rfl rfl)
theorem dX0_at_104 : decode cX0_at 104 = .ok (.iaload, 1) := dk_46 (dk_at dksX0_at_4 4 rfl rfl)
theorem dX0_at_105 : decode cX0_at 105 = .ok (.ireturn, 1) := dk_172 (dk_at dksX0_at_4 5 rfl rfl)
theorem dX0_at_106 : decode cX0_at 106 = .ok (.aload_n 0, 1) := dk_42 (dk_at dksX0_at_4 6 rfl rfl)
theorem dX0_at_107 : decode cX0_at 107 = .ok (.getfield 20, 3) := dk_180 0 20 (dk_at dksX0_at_4 7 rfl rfl)
theorem dX0_at_110 : decode cX0_at 110 = .ok (.getfield 175, 3) := dk_180 0 175 (dk_at dksX0_at_4 10 rfl rfl)
theorem dX0_at_113 : decode cX0_at 113 = .ok (.iload_n 1, 1) := dk_27 (dk_at dksX0_at_4 13 rfl rfl)
theorem dX0_at_114 : decode cX0_at 114 = .ok (.iaload, 1) := dk_46 (dk_at dksX0_at_4 14 rfl rfl)
theorem dX0_at_115 : decode cX0_at 115 = .ok (.ireturn, 1) := dk_172 (dk_at dksX0_at_4 15 rfl rfl)
theorem dX0_at_116 : decode cX0_at 116 = .ok (.aload_n 0, 1) := dk_42 (dk_at dksX0_at_4 16 rfl rfl)
theorem dX0_at_117 : decode cX0_at 117 = .ok (.getfield 20, 3) := dk_180 0 20 (dk_at dksX0_at_4 17 rfl rfl)
theorem dX0_at_120 : decode cX0_at 120 = .ok (.getfield 181, 3) := dk_180 0 181 (dk_at dksX0_at_4 20 rfl rfl)
theorem dX0_at_123 : decode cX0_at 123 = .ok (.iload_n 1, 1) := dk_27 (dk_at dksX0_at_4 23 rfl rfl)
theorem dX0_at_124 : decode cX0_at 124 = .ok (.iaload, 1) := dk_46 (dk_at dksX0_at_5 0 rfl rfl)
theorem dX0_at_125 : decode cX0_at 125 = .ok (.ireturn, 1) := dk_172 (dk_at dksX0_at_5 1 rfl rfl)
theorem dX0_at_126 : decode cX0_at 126 = .ok (.aload_n 0, 1) := dk_42 (dk_at dksX0_at_5 2 rfl rfl)
theorem dX0_at_127 : decode cX0_at 127 = .ok (.getfield 20, 3) := dk_180 0 20 (dk_at dksX0_at_5 3 rfl rfl)
theorem dX0_at_130 : decode cX0_at 130 = .ok (.iload_n 1, 1) := dk_27 (dk_at dksX0_at_5 6 rfl rfl)
theorem dX0_at_131 : decode cX0_at 131 = .ok (.invokevirtual 213, 3) := dk_182 0 213 (dk_at dksX0_at_5 7 rfl rfl)
theorem dX0_at_134 : decode cX0_at 134 = .ok (.ireturn, 1) := dk_172 (dk_at dksX0_at_5 10 rfl rfl)
abbrev cX0_of : ByteArray := prog_1_method_26_code
def yX0_of : MethodName := ⟨RX0, "of", "(II)I"⟩
def dkwX0_of_3 : List UInt8 := [180, 0, 100, 96, 184, 0, 50, 153, 0, 15, 45, 180, 0, 204, 28, 16, 10, 100, 46, 167, 0, 4, 2, 172]
abbrev dktX0_of_3 : List UInt8 := dkwX0_of_3 ++ []
def dkwX0_of_2 : List UInt8 := [45, 180, 0, 150, 172, 45, 180, 0, 190, 172, 45, 180, 0, 207, 172, 28, 16, 10, 16, 9, 42, 180, 0, 20]
abbrev dktX0_of_2 : List UInt8 := dkwX0_of_2 ++ dktX0_of_3
def dkwX0_of_1 : List UInt8 := [170, 0, 0, 0, 0, 0, 42, 0, 0, 0, 0, 0, 0, 0, 2, 0, 0, 0, 27, 0, 0, 0, 32, 0, 0, 0, 37]
abbrev dktX0_of_1 : List UInt8 := dkwX0_of_1 ++ dktX0_of_2
def dkwX0_of_0 : List UInt8 := [42, 27, 182, 0, 147, 154, 0, 5, 2, 172, 42, 180, 0, 20, 180, 0, 130, 27, 50, 78, 28]
abbrev dktX0_of_0 : List UInt8 := dkwX0_of_0 ++ dktX0_of_1
theorem dksX0_of_0 : cX0_of.data.toList.drop 0 = dktX0_of_0 := by decide +kernel
theorem dksX0_of_1 : cX0_of.data.toList.drop 21 = dktX0_of_1 := dk_seg dksX0_of_0 21 rfl rfl
theorem dksX0_of_2 : cX0_of.data.toList.drop 48 = dktX0_of_2 := dk_seg dksX0_of_1 27 rfl rfl
theorem dksX0_of_3 : cX0_of.data.toList.drop 72 = dktX0_of_3 := dk_seg dksX0_of_2 24 rfl rfl
theorem dX0_of_0 : decode cX0_of 0 = .ok (.aload_n 0, 1) := dk_42 (dk_at dksX0_of_0 0 rfl rfl)
theorem dX0_of_1 : decode cX0_of 1 = .ok (.iload_n 1, 1) := dk_27 (dk_at dksX0_of_0 1 rfl rfl)
theorem dX0_of_2 : decode cX0_of 2 = .ok (.invokevirtual 147, 3) := dk_182 0 147 (dk_at dksX0_of_0 2 rfl rfl)
theorem dX0_of_5 : decode cX0_of 5 = .ok (.ifCond .ne 5, 3) := dk_154 0 5 (dk_at dksX0_of_0 5 rfl rfl)
theorem dX0_of_8 : decode cX0_of 8 = .ok (.iconst (-1), 1) := dk_2 (dk_at dksX0_of_0 8 rfl rfl)
theorem dX0_of_9 : decode cX0_of 9 = .ok (.ireturn, 1) := dk_172 (dk_at dksX0_of_0 9 rfl rfl)
theorem dX0_of_10 : decode cX0_of 10 = .ok (.aload_n 0, 1) := dk_42 (dk_at dksX0_of_0 10 rfl rfl)
theorem dX0_of_11 : decode cX0_of 11 = .ok (.getfield 20, 3) := dk_180 0 20 (dk_at dksX0_of_0 11 rfl rfl)
theorem dX0_of_14 : decode cX0_of 14 = .ok (.getfield 130, 3) := dk_180 0 130 (dk_at dksX0_of_0 14 rfl rfl)
theorem dX0_of_17 : decode cX0_of 17 = .ok (.iload_n 1, 1) := dk_27 (dk_at dksX0_of_0 17 rfl rfl)
theorem dX0_of_18 : decode cX0_of 18 = .ok (.aaload, 1) := dk_50 (dk_at dksX0_of_0 18 rfl rfl)
theorem dX0_of_19 : decode cX0_of 19 = .ok (.astore_n 3, 1) := dk_78 (dk_at dksX0_of_0 19 rfl rfl)
theorem dX0_of_20 : decode cX0_of 20 = .ok (.iload_n 2, 1) := dk_28 (dk_at dksX0_of_0 20 rfl rfl)
theorem dX0_of_21 : decode cX0_of 21 = .ok (.tableswitch 42 0 2 #[27, 32, 37], 27) := by decide +kernel
theorem dX0_of_48 : decode cX0_of 48 = .ok (.aload_n 3, 1) := dk_45 (dk_at dksX0_of_2 0 rfl rfl)
theorem dX0_of_49 : decode cX0_of 49 = .ok (.getfield 150, 3) := dk_180 0 150 (dk_at dksX0_of_2 1 rfl rfl)
theorem dX0_of_52 : decode cX0_of 52 = .ok (.ireturn, 1) := dk_172 (dk_at dksX0_of_2 4 rfl rfl)
theorem dX0_of_53 : decode cX0_of 53 = .ok (.aload_n 3, 1) := dk_45 (dk_at dksX0_of_2 5 rfl rfl)
theorem dX0_of_54 : decode cX0_of 54 = .ok (.getfield 190, 3) := dk_180 0 190 (dk_at dksX0_of_2 6 rfl rfl)
theorem dX0_of_57 : decode cX0_of 57 = .ok (.ireturn, 1) := dk_172 (dk_at dksX0_of_2 9 rfl rfl)
theorem dX0_of_58 : decode cX0_of 58 = .ok (.aload_n 3, 1) := dk_45 (dk_at dksX0_of_2 10 rfl rfl)
theorem dX0_of_59 : decode cX0_of 59 = .ok (.getfield 207, 3) := dk_180 0 207 (dk_at dksX0_of_2 11 rfl rfl)
theorem dX0_of_62 : decode cX0_of 62 = .ok (.ireturn, 1) := dk_172 (dk_at dksX0_of_2 14 rfl rfl)
theorem dX0_of_63 : decode cX0_of 63 = .ok (.iload_n 2, 1) := dk_28 (dk_at dksX0_of_2 15 rfl rfl)
theorem dX0_of_64 : decode cX0_of 64 = .ok (.bipush 10, 2) := dk_16 10 (dk_at dksX0_of_2 16 rfl rfl)
theorem dX0_of_66 : decode cX0_of 66 = .ok (.bipush 9, 2) := dk_16 9 (dk_at dksX0_of_2 18 rfl rfl)
theorem dX0_of_68 : decode cX0_of 68 = .ok (.aload_n 0, 1) := dk_42 (dk_at dksX0_of_2 20 rfl rfl)
theorem dX0_of_69 : decode cX0_of 69 = .ok (.getfield 20, 3) := dk_180 0 20 (dk_at dksX0_of_2 21 rfl rfl)
theorem dX0_of_72 : decode cX0_of 72 = .ok (.getfield 100, 3) := dk_180 0 100 (dk_at dksX0_of_3 0 rfl rfl)
theorem dX0_of_75 : decode cX0_of 75 = .ok (.iadd, 1) := dk_96 (dk_at dksX0_of_3 3 rfl rfl)
theorem dX0_of_76 : decode cX0_of 76 = .ok (.invokestatic 50, 3) := dk_184 0 50 (dk_at dksX0_of_3 4 rfl rfl)
theorem dX0_of_79 : decode cX0_of 79 = .ok (.ifCond .eq 15, 3) := dk_153 0 15 (dk_at dksX0_of_3 7 rfl rfl)
theorem dX0_of_82 : decode cX0_of 82 = .ok (.aload_n 3, 1) := dk_45 (dk_at dksX0_of_3 10 rfl rfl)
theorem dX0_of_83 : decode cX0_of 83 = .ok (.getfield 204, 3) := dk_180 0 204 (dk_at dksX0_of_3 11 rfl rfl)
theorem dX0_of_86 : decode cX0_of 86 = .ok (.iload_n 2, 1) := dk_28 (dk_at dksX0_of_3 14 rfl rfl)
theorem dX0_of_87 : decode cX0_of 87 = .ok (.bipush 10, 2) := dk_16 10 (dk_at dksX0_of_3 15 rfl rfl)
theorem dX0_of_89 : decode cX0_of 89 = .ok (.isub, 1) := dk_100 (dk_at dksX0_of_3 17 rfl rfl)
theorem dX0_of_90 : decode cX0_of 90 = .ok (.iaload, 1) := dk_46 (dk_at dksX0_of_3 18 rfl rfl)
theorem dX0_of_91 : decode cX0_of 91 = .ok (.goto 4, 3) := dk_167 0 4 (dk_at dksX0_of_3 19 rfl rfl)
theorem dX0_of_94 : decode cX0_of 94 = .ok (.iconst (-1), 1) := dk_2 (dk_at dksX0_of_3 22 rfl rfl)
theorem dX0_of_95 : decode cX0_of 95 = .ok (.ireturn, 1) := dk_172 (dk_at dksX0_of_3 23 rfl rfl)
abbrev cX0_kind : ByteArray := prog_1_method_27_code
def yX0_kind : MethodName := ⟨RX0, "kind", "(II)I"⟩
def dkwX0_kind_2 : List UInt8 := [27, 46, 167, 0, 12, 42, 180, 0, 20, 180, 0, 127, 27, 46, 172]
abbrev dktX0_kind_2 : List UInt8 := dkwX0_kind_2 ++ []
def dkwX0_kind_1 : List UInt8 := [42, 180, 0, 20, 180, 0, 121, 27, 46, 167, 0, 29, 28, 4, 160, 0, 15, 42, 180, 0, 20, 180, 0, 124]
abbrev dktX0_kind_1 : List UInt8 := dkwX0_kind_1 ++ dktX0_kind_2
def dkwX0_kind_0 : List UInt8 := [42, 27, 182, 0, 162, 153, 0, 12, 28, 3, 5, 184, 0, 50, 154, 0, 6, 16, 254, 172, 28, 154, 0, 15]
abbrev dktX0_kind_0 : List UInt8 := dkwX0_kind_0 ++ dktX0_kind_1
theorem dksX0_kind_0 : cX0_kind.data.toList.drop 0 = dktX0_kind_0 := by decide +kernel
theorem dksX0_kind_1 : cX0_kind.data.toList.drop 24 = dktX0_kind_1 := dk_seg dksX0_kind_0 24 rfl rfl
theorem dksX0_kind_2 : cX0_kind.data.toList.drop 48 = dktX0_kind_2 := dk_seg dksX0_kind_1 24 rfl rfl
theorem dX0_kind_0 : decode cX0_kind 0 = .ok (.aload_n 0, 1) := dk_42 (dk_at dksX0_kind_0 0 rfl rfl)
theorem dX0_kind_1 : decode cX0_kind 1 = .ok (.iload_n 1, 1) := dk_27 (dk_at dksX0_kind_0 1 rfl rfl)
theorem dX0_kind_2 : decode cX0_kind 2 = .ok (.invokevirtual 162, 3) := dk_182 0 162 (dk_at dksX0_kind_0 2 rfl rfl)
theorem dX0_kind_5 : decode cX0_kind 5 = .ok (.ifCond .eq 12, 3) := dk_153 0 12 (dk_at dksX0_kind_0 5 rfl rfl)
theorem dX0_kind_8 : decode cX0_kind 8 = .ok (.iload_n 2, 1) := dk_28 (dk_at dksX0_kind_0 8 rfl rfl)
theorem dX0_kind_9 : decode cX0_kind 9 = .ok (.iconst 0, 1) := dk_3 (dk_at dksX0_kind_0 9 rfl rfl)
theorem dX0_kind_10 : decode cX0_kind 10 = .ok (.iconst 2, 1) := dk_5 (dk_at dksX0_kind_0 10 rfl rfl)
theorem dX0_kind_11 : decode cX0_kind 11 = .ok (.invokestatic 50, 3) := dk_184 0 50 (dk_at dksX0_kind_0 11 rfl rfl)
theorem dX0_kind_14 : decode cX0_kind 14 = .ok (.ifCond .ne 6, 3) := dk_154 0 6 (dk_at dksX0_kind_0 14 rfl rfl)
theorem dX0_kind_17 : decode cX0_kind 17 = .ok (.bipush (-2), 2) := dk_16 254 (dk_at dksX0_kind_0 17 rfl rfl)
theorem dX0_kind_19 : decode cX0_kind 19 = .ok (.ireturn, 1) := dk_172 (dk_at dksX0_kind_0 19 rfl rfl)
theorem dX0_kind_20 : decode cX0_kind 20 = .ok (.iload_n 2, 1) := dk_28 (dk_at dksX0_kind_0 20 rfl rfl)
theorem dX0_kind_21 : decode cX0_kind 21 = .ok (.ifCond .ne 15, 3) := dk_154 0 15 (dk_at dksX0_kind_0 21 rfl rfl)
theorem dX0_kind_24 : decode cX0_kind 24 = .ok (.aload_n 0, 1) := dk_42 (dk_at dksX0_kind_1 0 rfl rfl)
theorem dX0_kind_25 : decode cX0_kind 25 = .ok (.getfield 20, 3) := dk_180 0 20 (dk_at dksX0_kind_1 1 rfl rfl)
theorem dX0_kind_28 : decode cX0_kind 28 = .ok (.getfield 121, 3) := dk_180 0 121 (dk_at dksX0_kind_1 4 rfl rfl)
theorem dX0_kind_31 : decode cX0_kind 31 = .ok (.iload_n 1, 1) := dk_27 (dk_at dksX0_kind_1 7 rfl rfl)
theorem dX0_kind_32 : decode cX0_kind 32 = .ok (.iaload, 1) := dk_46 (dk_at dksX0_kind_1 8 rfl rfl)
theorem dX0_kind_33 : decode cX0_kind 33 = .ok (.goto 29, 3) := dk_167 0 29 (dk_at dksX0_kind_1 9 rfl rfl)
theorem dX0_kind_36 : decode cX0_kind 36 = .ok (.iload_n 2, 1) := dk_28 (dk_at dksX0_kind_1 12 rfl rfl)
theorem dX0_kind_37 : decode cX0_kind 37 = .ok (.iconst 1, 1) := dk_4 (dk_at dksX0_kind_1 13 rfl rfl)
theorem dX0_kind_38 : decode cX0_kind 38 = .ok (.if_icmp .ne 15, 3) := dk_160 0 15 (dk_at dksX0_kind_1 14 rfl rfl)
theorem dX0_kind_41 : decode cX0_kind 41 = .ok (.aload_n 0, 1) := dk_42 (dk_at dksX0_kind_1 17 rfl rfl)
theorem dX0_kind_42 : decode cX0_kind 42 = .ok (.getfield 20, 3) := dk_180 0 20 (dk_at dksX0_kind_1 18 rfl rfl)
theorem dX0_kind_45 : decode cX0_kind 45 = .ok (.getfield 124, 3) := dk_180 0 124 (dk_at dksX0_kind_1 21 rfl rfl)
theorem dX0_kind_48 : decode cX0_kind 48 = .ok (.iload_n 1, 1) := dk_27 (dk_at dksX0_kind_2 0 rfl rfl)
theorem dX0_kind_49 : decode cX0_kind 49 = .ok (.iaload, 1) := dk_46 (dk_at dksX0_kind_2 1 rfl rfl)
theorem dX0_kind_50 : decode cX0_kind 50 = .ok (.goto 12, 3) := dk_167 0 12 (dk_at dksX0_kind_2 2 rfl rfl)
theorem dX0_kind_53 : decode cX0_kind 53 = .ok (.aload_n 0, 1) := dk_42 (dk_at dksX0_kind_2 5 rfl rfl)
theorem dX0_kind_54 : decode cX0_kind 54 = .ok (.getfield 20, 3) := dk_180 0 20 (dk_at dksX0_kind_2 6 rfl rfl)
theorem dX0_kind_57 : decode cX0_kind 57 = .ok (.getfield 127, 3) := dk_180 0 127 (dk_at dksX0_kind_2 9 rfl rfl)
theorem dX0_kind_60 : decode cX0_kind 60 = .ok (.iload_n 1, 1) := dk_27 (dk_at dksX0_kind_2 12 rfl rfl)
theorem dX0_kind_61 : decode cX0_kind 61 = .ok (.iaload, 1) := dk_46 (dk_at dksX0_kind_2 13 rfl rfl)
theorem dX0_kind_62 : decode cX0_kind 62 = .ok (.ireturn, 1) := dk_172 (dk_at dksX0_kind_2 14 rfl rfl)
abbrev cX0_book : ByteArray := prog_1_method_28_code
def yX0_book : MethodName := ⟨RX0, "book", "(II)I"⟩
def dkwX0_book_1 : List UInt8 := [153, 0, 17, 42, 180, 0, 20, 180, 0, 187, 27, 50, 28, 46, 167, 0, 4, 2, 172]
abbrev dktX0_book_1 : List UInt8 := dkwX0_book_1 ++ []
