/-! LastWordWood$Reader -/
set_option maxRecDepth 100000
def RX4 : String := "LastWordWood$Reader"
def TX4 : u_T := fun k => match k with
  | 0 => ("LastWordWood$Reader", "at", "I", false)
  | 1 => ("LastWordWood$Reader", "start", "I", false)
  | 2 => ("LastWordWood$Reader", "token", "I", false)
  | 3 => ("LastWordWood$Reader", "value", "I", false)
  | 4 => ("LastWordWood$Reader", "open", "I", false)
  | _ => ("LastWordWood$Reader", "this$0", "LLastWordWood;", true)
def tyX4 : Nat → FieldType := fun k => match k with
  | 0 => .int
  | 1 => .int
  | 2 => .int
  | 3 => .int
  | 4 => .int
  | _ => .object "LastWordWood"
abbrev wsX40 : List Cond := u_ws RX4 TX4 6
theorem nmX4 : ∀ a, a < 6 → ∀ b, b < 6 → a ≠ b → (TX4 a).2.1 ≠ (TX4 b).2.1 := by decide +kernel
theorem tyX4_ok : ∀ k, k < 6 → parseFieldDescriptor (TX4 k).2.2.1 = some (tyX4 k) := by decide +kernel
abbrev cX4_init : ByteArray := prog_10_method_1_code
def yX4_init : MethodName := ⟨RX4, "<init>", "(LLastWordWood;)V"⟩
def dkwX4_init_0 : List UInt8 := [42, 43, 181, 0, 3, 42, 183, 0, 9, 177]
abbrev dktX4_init_0 : List UInt8 := dkwX4_init_0 ++ []
theorem dksX4_init_0 : cX4_init.data.toList.drop 0 = dktX4_init_0 := by decide +kernel
theorem dX4_init_0 : decode cX4_init 0 = .ok (.aload_n 0, 1) := dk_42 (dk_at dksX4_init_0 0 rfl rfl)
theorem dX4_init_1 : decode cX4_init 1 = .ok (.aload_n 1, 1) := dk_43 (dk_at dksX4_init_0 1 rfl rfl)
theorem dX4_init_2 : decode cX4_init 2 = .ok (.putfield 3, 3) := dk_181 0 3 (dk_at dksX4_init_0 2 rfl rfl)
theorem dX4_init_5 : decode cX4_init 5 = .ok (.aload_n 0, 1) := dk_42 (dk_at dksX4_init_0 5 rfl rfl)
theorem dX4_init_6 : decode cX4_init 6 = .ok (.invokespecial 9, 3) := dk_183 0 9 (dk_at dksX4_init_0 6 rfl rfl)
theorem dX4_init_9 : decode cX4_init 9 = .ok (.return_, 1) := dk_177 (dk_at dksX4_init_0 9 rfl rfl)
abbrev cX4_read : ByteArray := prog_10_method_19_code
def yX4_read : MethodName := ⟨RX4, "read", "()Ljava/util/ArrayList;"⟩
def dkwX4_read_5 : List UInt8 := [43, 176]
abbrev dktX4_read_5 : List UInt8 := dkwX4_read_5 ++ []
def dkwX4_read_4 : List UInt8 := [77, 42, 16, 59, 182, 0, 153, 43, 187, 0, 164, 89, 45, 44, 183, 0, 166, 182, 0, 169, 87, 167, 255, 152]
abbrev dktX4_read_4 : List UInt8 := dkwX4_read_4 ++ dktX4_read_5
def dkwX4_read_3 : List UInt8 := [182, 0, 106, 42, 182, 0, 156, 78, 42, 180, 0, 81, 6, 160, 0, 12, 42, 182, 0, 106, 42, 182, 0, 150]
abbrev dktX4_read_3 : List UInt8 := dkwX4_read_3 ++ dktX4_read_4
def dkwX4_read_2 : List UInt8 := [160, 0, 16, 187, 0, 101, 89, 6, 42, 180, 0, 34, 183, 0, 103, 191, 1, 77, 42, 3, 181, 0, 109, 42]
abbrev dktX4_read_2 : List UInt8 := dkwX4_read_2 ++ dktX4_read_3
def dkwX4_read_1 : List UInt8 := [16, 7, 159, 0, 16, 187, 0, 101, 89, 4, 42, 180, 0, 34, 183, 0, 103, 191, 43, 182, 0, 162, 16, 16]
abbrev dktX4_read_1 : List UInt8 := dkwX4_read_1 ++ dktX4_read_2
def dkwX4_read_0 : List UInt8 := [187, 0, 159, 89, 183, 0, 161, 76, 42, 182, 0, 106, 42, 180, 0, 81, 153, 0, 103, 42, 180, 0, 81]
abbrev dktX4_read_0 : List UInt8 := dkwX4_read_0 ++ dktX4_read_1
theorem dksX4_read_0 : cX4_read.data.toList.drop 0 = dktX4_read_0 := by decide +kernel
theorem dksX4_read_1 : cX4_read.data.toList.drop 23 = dktX4_read_1 := dk_seg dksX4_read_0 23 rfl rfl
theorem dksX4_read_2 : cX4_read.data.toList.drop 47 = dktX4_read_2 := dk_seg dksX4_read_1 24 rfl rfl
theorem dksX4_read_3 : cX4_read.data.toList.drop 71 = dktX4_read_3 := dk_seg dksX4_read_2 24 rfl rfl
theorem dksX4_read_4 : cX4_read.data.toList.drop 95 = dktX4_read_4 := dk_seg dksX4_read_3 24 rfl rfl
theorem dksX4_read_5 : cX4_read.data.toList.drop 119 = dktX4_read_5 := dk_seg dksX4_read_4 24 rfl rfl
theorem dX4_read_0 : decode cX4_read 0 = .ok (.new 159, 3) := dk_187 0 159 (dk_at dksX4_read_0 0 rfl rfl)
theorem dX4_read_3 : decode cX4_read 3 = .ok (.dup, 1) := dk_89 (dk_at dksX4_read_0 3 rfl rfl)
theorem dX4_read_4 : decode cX4_read 4 = .ok (.invokespecial 161, 3) := dk_183 0 161 (dk_at dksX4_read_0 4 rfl rfl)
theorem dX4_read_7 : decode cX4_read 7 = .ok (.astore_n 1, 1) := dk_76 (dk_at dksX4_read_0 7 rfl rfl)
theorem dX4_read_8 : decode cX4_read 8 = .ok (.aload_n 0, 1) := dk_42 (dk_at dksX4_read_0 8 rfl rfl)
theorem dX4_read_9 : decode cX4_read 9 = .ok (.invokevirtual 106, 3) := dk_182 0 106 (dk_at dksX4_read_0 9 rfl rfl)
theorem dX4_read_12 : decode cX4_read 12 = .ok (.aload_n 0, 1) := dk_42 (dk_at dksX4_read_0 12 rfl rfl)
theorem dX4_read_13 : decode cX4_read 13 = .ok (.getfield 81, 3) := dk_180 0 81 (dk_at dksX4_read_0 13 rfl rfl)
theorem dX4_read_16 : decode cX4_read 16 = .ok (.ifCond .eq 103, 3) := dk_153 0 103 (dk_at dksX4_read_0 16 rfl rfl)
theorem dX4_read_19 : decode cX4_read 19 = .ok (.aload_n 0, 1) := dk_42 (dk_at dksX4_read_0 19 rfl rfl)
theorem dX4_read_20 : decode cX4_read 20 = .ok (.getfield 81, 3) := dk_180 0 81 (dk_at dksX4_read_0 20 rfl rfl)
theorem dX4_read_23 : decode cX4_read 23 = .ok (.bipush 7, 2) := dk_16 7 (dk_at dksX4_read_1 0 rfl rfl)
theorem dX4_read_25 : decode cX4_read 25 = .ok (.if_icmp .eq 16, 3) := dk_159 0 16 (dk_at dksX4_read_1 2 rfl rfl)
theorem dX4_read_28 : decode cX4_read 28 = .ok (.new 101, 3) := dk_187 0 101 (dk_at dksX4_read_1 5 rfl rfl)
theorem dX4_read_31 : decode cX4_read 31 = .ok (.dup, 1) := dk_89 (dk_at dksX4_read_1 8 rfl rfl)
theorem dX4_read_32 : decode cX4_read 32 = .ok (.iconst 1, 1) := dk_4 (dk_at dksX4_read_1 9 rfl rfl)
theorem dX4_read_33 : decode cX4_read 33 = .ok (.aload_n 0, 1) := dk_42 (dk_at dksX4_read_1 10 rfl rfl)
theorem dX4_read_34 : decode cX4_read 34 = .ok (.getfield 34, 3) := dk_180 0 34 (dk_at dksX4_read_1 11 rfl rfl)
theorem dX4_read_37 : decode cX4_read 37 = .ok (.invokespecial 103, 3) := dk_183 0 103 (dk_at dksX4_read_1 14 rfl rfl)
theorem dX4_read_40 : decode cX4_read 40 = .ok (.athrow, 1) := dk_191 (dk_at dksX4_read_1 17 rfl rfl)
theorem dX4_read_41 : decode cX4_read 41 = .ok (.aload_n 1, 1) := dk_43 (dk_at dksX4_read_1 18 rfl rfl)
theorem dX4_read_42 : decode cX4_read 42 = .ok (.invokevirtual 162, 3) := dk_182 0 162 (dk_at dksX4_read_1 19 rfl rfl)
theorem dX4_read_45 : decode cX4_read 45 = .ok (.bipush 16, 2) := dk_16 16 (dk_at dksX4_read_1 22 rfl rfl)
theorem dX4_read_47 : decode cX4_read 47 = .ok (.if_icmp .ne 16, 3) := dk_160 0 16 (dk_at dksX4_read_2 0 rfl rfl)
theorem dX4_read_50 : decode cX4_read 50 = .ok (.new 101, 3) := dk_187 0 101 (dk_at dksX4_read_2 3 rfl rfl)
theorem dX4_read_53 : decode cX4_read 53 = .ok (.dup, 1) := dk_89 (dk_at dksX4_read_2 6 rfl rfl)
theorem dX4_read_54 : decode cX4_read 54 = .ok (.iconst 3, 1) := dk_6 (dk_at dksX4_read_2 7 rfl rfl)
theorem dX4_read_55 : decode cX4_read 55 = .ok (.aload_n 0, 1) := dk_42 (dk_at dksX4_read_2 8 rfl rfl)
theorem dX4_read_56 : decode cX4_read 56 = .ok (.getfield 34, 3) := dk_180 0 34 (dk_at dksX4_read_2 9 rfl rfl)
theorem dX4_read_59 : decode cX4_read 59 = .ok (.invokespecial 103, 3) := dk_183 0 103 (dk_at dksX4_read_2 12 rfl rfl)
theorem dX4_read_62 : decode cX4_read 62 = .ok (.athrow, 1) := dk_191 (dk_at dksX4_read_2 15 rfl rfl)
theorem dX4_read_63 : decode cX4_read 63 = .ok (.aconst_null, 1) := dk_1 (dk_at dksX4_read_2 16 rfl rfl)
theorem dX4_read_64 : decode cX4_read 64 = .ok (.astore_n 2, 1) := dk_77 (dk_at dksX4_read_2 17 rfl rfl)
theorem dX4_read_65 : decode cX4_read 65 = .ok (.aload_n 0, 1) := dk_42 (dk_at dksX4_read_2 18 rfl rfl)
theorem dX4_read_66 : decode cX4_read 66 = .ok (.iconst 0, 1) := dk_3 (dk_at dksX4_read_2 19 rfl rfl)
theorem dX4_read_67 : decode cX4_read 67 = .ok (.putfield 109, 3) := dk_181 0 109 (dk_at dksX4_read_2 20 rfl rfl)
theorem dX4_read_70 : decode cX4_read 70 = .ok (.aload_n 0, 1) := dk_42 (dk_at dksX4_read_2 23 rfl rfl)
theorem dX4_read_71 : decode cX4_read 71 = .ok (.invokevirtual 106, 3) := dk_182 0 106 (dk_at dksX4_read_3 0 rfl rfl)
theorem dX4_read_74 : decode cX4_read 74 = .ok (.aload_n 0, 1) := dk_42 (dk_at dksX4_read_3 3 rfl rfl)
theorem dX4_read_75 : decode cX4_read 75 = .ok (.invokevirtual 156, 3) := dk_182 0 156 (dk_at dksX4_read_3 4 rfl rfl)
theorem dX4_read_78 : decode cX4_read 78 = .ok (.astore_n 3, 1) := dk_78 (dk_at dksX4_read_3 7 rfl rfl)
theorem dX4_read_79 : decode cX4_read 79 = .ok (.aload_n 0, 1) := dk_42 (dk_at dksX4_read_3 8 rfl rfl)
theorem dX4_read_80 : decode cX4_read 80 = .ok (.getfield 81, 3) := dk_180 0 81 (dk_at dksX4_read_3 9 rfl rfl)
theorem dX4_read_83 : decode cX4_read 83 = .ok (.iconst 3, 1) := dk_6 (dk_at dksX4_read_3 12 rfl rfl)
theorem dX4_read_84 : decode cX4_read 84 = .ok (.if_icmp .ne 12, 3) := dk_160 0 12 (dk_at dksX4_read_3 13 rfl rfl)
theorem dX4_read_87 : decode cX4_read 87 = .ok (.aload_n 0, 1) := dk_42 (dk_at dksX4_read_3 16 rfl rfl)
theorem dX4_read_88 : decode cX4_read 88 = .ok (.invokevirtual 106, 3) := dk_182 0 106 (dk_at dksX4_read_3 17 rfl rfl)
theorem dX4_read_91 : decode cX4_read 91 = .ok (.aload_n 0, 1) := dk_42 (dk_at dksX4_read_3 20 rfl rfl)
theorem dX4_read_92 : decode cX4_read 92 = .ok (.invokevirtual 150, 3) := dk_182 0 150 (dk_at dksX4_read_3 21 rfl rfl)
theorem dX4_read_95 : decode cX4_read 95 = .ok (.astore_n 2, 1) := dk_77 (dk_at dksX4_read_4 0 rfl rfl)
theorem dX4_read_96 : decode cX4_read 96 = .ok (.aload_n 0, 1) := dk_42 (dk_at dksX4_read_4 1 rfl rfl)
theorem dX4_read_97 : decode cX4_read 97 = .ok (.bipush 59, 2) := dk_16 59 (dk_at dksX4_read_4 2 rfl rfl)
theorem dX4_read_99 : decode cX4_read 99 = .ok (.invokevirtual 153, 3) := dk_182 0 153 (dk_at dksX4_read_4 4 rfl rfl)
theorem dX4_read_102 : decode cX4_read 102 = .ok (.aload_n 1, 1) := dk_43 (dk_at dksX4_read_4 7 rfl rfl)
theorem dX4_read_103 : decode cX4_read 103 = .ok (.new 164, 3) := dk_187 0 164 (dk_at dksX4_read_4 8 rfl rfl)
theorem dX4_read_106 : decode cX4_read 106 = .ok (.dup, 1) := dk_89 (dk_at dksX4_read_4 11 rfl rfl)
theorem dX4_read_107 : decode cX4_read 107 = .ok (.aload_n 3, 1) := dk_45 (dk_at dksX4_read_4 12 rfl rfl)
theorem dX4_read_108 : decode cX4_read 108 = .ok (.aload_n 2, 1) := dk_44 (dk_at dksX4_read_4 13 rfl rfl)
theorem dX4_read_109 : decode cX4_read 109 = .ok (.invokespecial 166, 3) := dk_183 0 166 (dk_at dksX4_read_4 14 rfl rfl)
theorem dX4_read_112 : decode cX4_read 112 = .ok (.invokevirtual 169, 3) := dk_182 0 169 (dk_at dksX4_read_4 17 rfl rfl)
theorem dX4_read_115 : decode cX4_read 115 = .ok (.pop, 1) := dk_87 (dk_at dksX4_read_4 20 rfl rfl)
theorem dX4_read_116 : decode cX4_read 116 = .ok (.goto (-104), 3) := dk_167 255 152 (dk_at dksX4_read_4 21 rfl rfl)
theorem dX4_read_119 : decode cX4_read 119 = .ok (.aload_n 1, 1) := dk_43 (dk_at dksX4_read_5 0 rfl rfl)
theorem dX4_read_120 : decode cX4_read 120 = .ok (.areturn, 1) := dk_176 (dk_at dksX4_read_5 1 rfl rfl)
abbrev cX4_next : ByteArray := prog_10_method_9_code
def yX4_next : MethodName := ⟨RX4, "next", "()V"⟩
def dkwX4_next_9 : List UInt8 := [180, 0, 15, 4, 96, 181, 0, 15, 177]
abbrev dktX4_next_9 : List UInt8 := dkwX4_next_9 ++ []
def dkwX4_next_8 : List UInt8 := [182, 0, 26, 182, 0, 97, 153, 0, 10, 42, 182, 0, 26, 167, 0, 4, 4, 181, 0, 81, 42, 89]
abbrev dktX4_next_8 : List UInt8 := dkwX4_next_8 ++ dktX4_next_9
def dkwX4_next_7 : List UInt8 := [180, 0, 34, 100, 8, 162, 0, 7, 5, 167, 0, 4, 4, 181, 0, 81, 167, 0, 36, 42, 42, 42]
abbrev dktX4_next_7 : List UInt8 := dkwX4_next_7 ++ dktX4_next_8
def dkwX4_next_6 : List UInt8 := [181, 0, 94, 42, 89, 180, 0, 15, 4, 96, 181, 0, 15, 167, 255, 207, 42, 42, 180, 0, 15, 42]
abbrev dktX4_next_6 : List UInt8 := dkwX4_next_6 ++ dktX4_next_7
def dkwX4_next_5 : List UInt8 := [180, 0, 34, 7, 96, 162, 0, 22, 42, 16, 10, 42, 180, 0, 94, 104, 42, 182, 0, 26, 96, 16, 48, 100]
abbrev dktX4_next_5 : List UInt8 := dkwX4_next_5 ++ dktX4_next_6
def dkwX4_next_4 : List UInt8 := [182, 0, 91, 153, 0, 85, 42, 3, 181, 0, 94, 42, 182, 0, 91, 153, 0, 48, 42, 180, 0, 15, 42]
abbrev dktX4_next_4 : List UInt8 := dkwX4_next_4 ++ dktX4_next_5
def dkwX4_next_3 : List UInt8 := [180, 0, 15, 4, 96, 181, 0, 15, 167, 255, 239, 42, 42, 182, 0, 88, 181, 0, 81, 167, 0, 125, 42]
abbrev dktX4_next_3 : List UInt8 := dkwX4_next_3 ++ dktX4_next_4
def dkwX4_next_2 : List UInt8 := [3, 181, 0, 81, 167, 0, 163, 42, 182, 0, 84, 153, 0, 34, 42, 182, 0, 84, 153, 0, 16, 42, 89]
abbrev dktX4_next_2 : List UInt8 := dkwX4_next_2 ++ dktX4_next_3
def dkwX4_next_1 : List UInt8 := [96, 181, 0, 15, 167, 255, 228, 42, 42, 180, 0, 15, 181, 0, 34, 42, 182, 0, 26, 2, 160, 0, 11, 42]
abbrev dktX4_next_1 : List UInt8 := dkwX4_next_1 ++ dktX4_next_2
def dkwX4_next_0 : List UInt8 := [42, 182, 0, 26, 16, 32, 159, 0, 12, 42, 182, 0, 26, 16, 10, 160, 0, 16, 42, 89, 180, 0, 15, 4]
abbrev dktX4_next_0 : List UInt8 := dkwX4_next_0 ++ dktX4_next_1
theorem dksX4_next_0 : cX4_next.data.toList.drop 0 = dktX4_next_0 := by decide +kernel
theorem dksX4_next_1 : cX4_next.data.toList.drop 24 = dktX4_next_1 := dk_seg dksX4_next_0 24 rfl rfl
theorem dksX4_next_2 : cX4_next.data.toList.drop 48 = dktX4_next_2 := dk_seg dksX4_next_1 24 rfl rfl
theorem dksX4_next_3 : cX4_next.data.toList.drop 71 = dktX4_next_3 := dk_seg dksX4_next_2 23 rfl rfl
theorem dksX4_next_4 : cX4_next.data.toList.drop 94 = dktX4_next_4 := dk_seg dksX4_next_3 23 rfl rfl
theorem dksX4_next_5 : cX4_next.data.toList.drop 117 = dktX4_next_5 := dk_seg dksX4_next_4 23 rfl rfl
theorem dksX4_next_6 : cX4_next.data.toList.drop 141 = dktX4_next_6 := dk_seg dksX4_next_5 24 rfl rfl
theorem dksX4_next_7 : cX4_next.data.toList.drop 163 = dktX4_next_7 := dk_seg dksX4_next_6 22 rfl rfl
theorem dksX4_next_8 : cX4_next.data.toList.drop 185 = dktX4_next_8 := dk_seg dksX4_next_7 22 rfl rfl
theorem dksX4_next_9 : cX4_next.data.toList.drop 207 = dktX4_next_9 := dk_seg dksX4_next_8 22 rfl rfl
theorem dX4_next_0 : decode cX4_next 0 = .ok (.aload_n 0, 1) := dk_42 (dk_at dksX4_next_0 0 rfl rfl)
theorem dX4_next_1 : decode cX4_next 1 = .ok (.invokevirtual 26, 3) := dk_182 0 26 (dk_at dksX4_next_0 1 rfl rfl)
theorem dX4_next_4 : decode cX4_next 4 = .ok (.bipush 32, 2) := dk_16 32 (dk_at dksX4_next_0 4 rfl rfl)
theorem dX4_next_6 : decode cX4_next 6 = .ok (.if_icmp .eq 12, 3) := dk_159 0 12 (dk_at dksX4_next_0 6 rfl rfl)
theorem dX4_next_9 : decode cX4_next 9 = .ok (.aload_n 0, 1) := dk_42 (dk_at dksX4_next_0 9 rfl rfl)
theorem dX4_next_10 : decode cX4_next 10 = .ok (.invokevirtual 26, 3) := dk_182 0 26 (dk_at dksX4_next_0 10 rfl rfl)
theorem dX4_next_13 : decode cX4_next 13 = .ok (.bipush 10, 2) := dk_16 10 (dk_at dksX4_next_0 13 rfl rfl)
theorem dX4_next_15 : decode cX4_next 15 = .ok (.if_icmp .ne 16, 3) := dk_160 0 16 (dk_at dksX4_next_0 15 rfl rfl)
theorem dX4_next_18 : decode cX4_next 18 = .ok (.aload_n 0, 1) := dk_42 (dk_at dksX4_next_0 18 rfl rfl)
theorem dX4_next_19 : decode cX4_next 19 = .ok (.dup, 1) := dk_89 (dk_at dksX4_next_0 19 rfl rfl)
theorem dX4_next_20 : decode cX4_next 20 = .ok (.getfield 15, 3) := dk_180 0 15 (dk_at dksX4_next_0 20 rfl rfl)
theorem dX4_next_23 : decode cX4_next 23 = .ok (.iconst 1, 1) := dk_4 (dk_at dksX4_next_0 23 rfl rfl)
theorem dX4_next_24 : decode cX4_next 24 = .ok (.iadd, 1) := dk_96 (dk_at dksX4_next_1 0 rfl rfl)
theorem dX4_next_25 : decode cX4_next 25 = .ok (.putfield 15, 3) := dk_181 0 15 (dk_at dksX4_next_1 1 rfl rfl)
theorem dX4_next_28 : decode cX4_next 28 = .ok (.goto (-28), 3) := dk_167 255 228 (dk_at dksX4_next_1 4 rfl rfl)
theorem dX4_next_31 : decode cX4_next 31 = .ok (.aload_n 0, 1) := dk_42 (dk_at dksX4_next_1 7 rfl rfl)
theorem dX4_next_32 : decode cX4_next 32 = .ok (.aload_n 0, 1) := dk_42 (dk_at dksX4_next_1 8 rfl rfl)
theorem dX4_next_33 : decode cX4_next 33 = .ok (.getfield 15, 3) := dk_180 0 15 (dk_at dksX4_next_1 9 rfl rfl)
theorem dX4_next_36 : decode cX4_next 36 = .ok (.putfield 34, 3) := dk_181 0 34 (dk_at dksX4_next_1 12 rfl rfl)
theorem dX4_next_39 : decode cX4_next 39 = .ok (.aload_n 0, 1) := dk_42 (dk_at dksX4_next_1 15 rfl rfl)
theorem dX4_next_40 : decode cX4_next 40 = .ok (.invokevirtual 26, 3) := dk_182 0 26 (dk_at dksX4_next_1 16 rfl rfl)
theorem dX4_next_43 : decode cX4_next 43 = .ok (.iconst (-1), 1) := dk_2 (dk_at dksX4_next_1 19 rfl rfl)
theorem dX4_next_44 : decode cX4_next 44 = .ok (.if_icmp .ne 11, 3) := dk_160 0 11 (dk_at dksX4_next_1 20 rfl rfl)
theorem dX4_next_47 : decode cX4_next 47 = .ok (.aload_n 0, 1) := dk_42 (dk_at dksX4_next_1 23 rfl rfl)
theorem dX4_next_48 : decode cX4_next 48 = .ok (.iconst 0, 1) := dk_3 (dk_at dksX4_next_2 0 rfl rfl)
theorem dX4_next_49 : decode cX4_next 49 = .ok (.putfield 81, 3) := dk_181 0 81 (dk_at dksX4_next_2 1 rfl rfl)
theorem dX4_next_52 : decode cX4_next 52 = .ok (.goto 163, 3) := dk_167 0 163 (dk_at dksX4_next_2 4 rfl rfl)
theorem dX4_next_55 : decode cX4_next 55 = .ok (.aload_n 0, 1) := dk_42 (dk_at dksX4_next_2 7 rfl rfl)
theorem dX4_next_56 : decode cX4_next 56 = .ok (.invokevirtual 84, 3) := dk_182 0 84 (dk_at dksX4_next_2 8 rfl rfl)
theorem dX4_next_59 : decode cX4_next 59 = .ok (.ifCond .eq 34, 3) := dk_153 0 34 (dk_at dksX4_next_2 11 rfl rfl)
theorem dX4_next_62 : decode cX4_next 62 = .ok (.aload_n 0, 1) := dk_42 (dk_at dksX4_next_2 14 rfl rfl)
theorem dX4_next_63 : decode cX4_next 63 = .ok (.invokevirtual 84, 3) := dk_182 0 84 (dk_at dksX4_next_2 15 rfl rfl)
theorem dX4_next_66 : decode cX4_next 66 = .ok (.ifCond .eq 16, 3) := dk_153 0 16 (dk_at dksX4_next_2 18 rfl rfl)
theorem dX4_next_69 : decode cX4_next 69 = .ok (.aload_n 0, 1) := dk_42 (dk_at dksX4_next_2 21 rfl rfl)
theorem dX4_next_70 : decode cX4_next 70 = .ok (.dup, 1) := dk_89 (dk_at dksX4_next_2 22 rfl rfl)
theorem dX4_next_71 : decode cX4_next 71 = .ok (.getfield 15, 3) := dk_180 0 15 (dk_at dksX4_next_3 0 rfl rfl)
theorem dX4_next_74 : decode cX4_next 74 = .ok (.iconst 1, 1) := dk_4 (dk_at dksX4_next_3 3 rfl rfl)
theorem dX4_next_75 : decode cX4_next 75 = .ok (.iadd, 1) := dk_96 (dk_at dksX4_next_3 4 rfl rfl)
theorem dX4_next_76 : decode cX4_next 76 = .ok (.putfield 15, 3) := dk_181 0 15 (dk_at dksX4_next_3 5 rfl rfl)
theorem dX4_next_79 : decode cX4_next 79 = .ok (.goto (-17), 3) := dk_167 255 239 (dk_at dksX4_next_3 8 rfl rfl)
theorem dX4_next_82 : decode cX4_next 82 = .ok (.aload_n 0, 1) := dk_42 (dk_at dksX4_next_3 11 rfl rfl)
theorem dX4_next_83 : decode cX4_next 83 = .ok (.aload_n 0, 1) := dk_42 (dk_at dksX4_next_3 12 rfl rfl)
theorem dX4_next_84 : decode cX4_next 84 = .ok (.invokevirtual 88, 3) := dk_182 0 88 (dk_at dksX4_next_3 13 rfl rfl)
theorem dX4_next_87 : decode cX4_next 87 = .ok (.putfield 81, 3) := dk_181 0 81 (dk_at dksX4_next_3 16 rfl rfl)
theorem dX4_next_90 : decode cX4_next 90 = .ok (.goto 125, 3) := dk_167 0 125 (dk_at dksX4_next_3 19 rfl rfl)
theorem dX4_next_93 : decode cX4_next 93 = .ok (.aload_n 0, 1) := dk_42 (dk_at dksX4_next_3 22 rfl rfl)
theorem dX4_next_94 : decode cX4_next 94 = .ok (.invokevirtual 91, 3) := dk_182 0 91 (dk_at dksX4_next_4 0 rfl rfl)
theorem dX4_next_97 : decode cX4_next 97 = .ok (.ifCond .eq 85, 3) := dk_153 0 85 (dk_at dksX4_next_4 3 rfl rfl)
theorem dX4_next_100 : decode cX4_next 100 = .ok (.aload_n 0, 1) := dk_42 (dk_at dksX4_next_4 6 rfl rfl)
theorem dX4_next_101 : decode cX4_next 101 = .ok (.iconst 0, 1) := dk_3 (dk_at dksX4_next_4 7 rfl rfl)
theorem dX4_next_102 : decode cX4_next 102 = .ok (.putfield 94, 3) := dk_181 0 94 (dk_at dksX4_next_4 8 rfl rfl)
theorem dX4_next_105 : decode cX4_next 105 = .ok (.aload_n 0, 1) := dk_42 (dk_at dksX4_next_4 11 rfl rfl)
theorem dX4_next_106 : decode cX4_next 106 = .ok (.invokevirtual 91, 3) := dk_182 0 91 (dk_at dksX4_next_4 12 rfl rfl)
theorem dX4_next_109 : decode cX4_next 109 = .ok (.ifCond .eq 48, 3) := dk_153 0 48 (dk_at dksX4_next_4 15 rfl rfl)
theorem dX4_next_112 : decode cX4_next 112 = .ok (.aload_n 0, 1) := dk_42 (dk_at dksX4_next_4 18 rfl rfl)
theorem dX4_next_113 : decode cX4_next 113 = .ok (.getfield 15, 3) := dk_180 0 15 (dk_at dksX4_next_4 19 rfl rfl)
theorem dX4_next_116 : decode cX4_next 116 = .ok (.aload_n 0, 1) := dk_42 (dk_at dksX4_next_4 22 rfl rfl)
theorem dX4_next_117 : decode cX4_next 117 = .ok (.getfield 34, 3) := dk_180 0 34 (dk_at dksX4_next_5 0 rfl rfl)
theorem dX4_next_120 : decode cX4_next 120 = .ok (.iconst 4, 1) := dk_7 (dk_at dksX4_next_5 3 rfl rfl)
theorem dX4_next_121 : decode cX4_next 121 = .ok (.iadd, 1) := dk_96 (dk_at dksX4_next_5 4 rfl rfl)
theorem dX4_next_122 : decode cX4_next 122 = .ok (.if_icmp .ge 22, 3) := dk_162 0 22 (dk_at dksX4_next_5 5 rfl rfl)
theorem dX4_next_125 : decode cX4_next 125 = .ok (.aload_n 0, 1) := dk_42 (dk_at dksX4_next_5 8 rfl rfl)
theorem dX4_next_126 : decode cX4_next 126 = .ok (.bipush 10, 2) := dk_16 10 (dk_at dksX4_next_5 9 rfl rfl)
theorem dX4_next_128 : decode cX4_next 128 = .ok (.aload_n 0, 1) := dk_42 (dk_at dksX4_next_5 11 rfl rfl)
theorem dX4_next_129 : decode cX4_next 129 = .ok (.getfield 94, 3) := dk_180 0 94 (dk_at dksX4_next_5 12 rfl rfl)
theorem dX4_next_132 : decode cX4_next 132 = .ok (.imul, 1) := dk_104 (dk_at dksX4_next_5 15 rfl rfl)
theorem dX4_next_133 : decode cX4_next 133 = .ok (.aload_n 0, 1) := dk_42 (dk_at dksX4_next_5 16 rfl rfl)
theorem dX4_next_134 : decode cX4_next 134 = .ok (.invokevirtual 26, 3) := dk_182 0 26 (dk_at dksX4_next_5 17 rfl rfl)
theorem dX4_next_137 : decode cX4_next 137 = .ok (.iadd, 1) := dk_96 (dk_at dksX4_next_5 20 rfl rfl)
theorem dX4_next_138 : decode cX4_next 138 = .ok (.bipush 48, 2) := dk_16 48 (dk_at dksX4_next_5 21 rfl rfl)
theorem dX4_next_140 : decode cX4_next 140 = .ok (.isub, 1) := dk_100 (dk_at dksX4_next_5 23 rfl rfl)
theorem dX4_next_141 : decode cX4_next 141 = .ok (.putfield 94, 3) := dk_181 0 94 (dk_at dksX4_next_6 0 rfl rfl)
theorem dX4_next_144 : decode cX4_next 144 = .ok (.aload_n 0, 1) := dk_42 (dk_at dksX4_next_6 3 rfl rfl)
theorem dX4_next_145 : decode cX4_next 145 = .ok (.dup, 1) := dk_89 (dk_at dksX4_next_6 4 rfl rfl)
theorem dX4_next_146 : decode cX4_next 146 = .ok (.getfield 15, 3) := dk_180 0 15 (dk_at dksX4_next_6 5 rfl rfl)
theorem dX4_next_149 : decode cX4_next 149 = .ok (.iconst 1, 1) := dk_4 (dk_at dksX4_next_6 8 rfl rfl)
theorem dX4_next_150 : decode cX4_next 150 = .ok (.iadd, 1) := dk_96 (dk_at dksX4_next_6 9 rfl rfl)
theorem dX4_next_151 : decode cX4_next 151 = .ok (.putfield 15, 3) := dk_181 0 15 (dk_at dksX4_next_6 10 rfl rfl)
theorem dX4_next_154 : decode cX4_next 154 = .ok (.goto (-49), 3) := dk_167 255 207 (dk_at dksX4_next_6 13 rfl rfl)
theorem dX4_next_157 : decode cX4_next 157 = .ok (.aload_n 0, 1) := dk_42 (dk_at dksX4_next_6 16 rfl rfl)
theorem dX4_next_158 : decode cX4_next 158 = .ok (.aload_n 0, 1) := dk_42 (dk_at dksX4_next_6 17 rfl rfl)
theorem dX4_next_159 : decode cX4_next 159 = .ok (.getfield 15, 3) := dk_180 0 15 (dk_at dksX4_next_6 18 rfl rfl)
theorem dX4_next_162 : decode cX4_next 162 = .ok (.aload_n 0, 1) := dk_42 (dk_at dksX4_next_6 21 rfl rfl)
theorem dX4_next_163 : decode cX4_next 163 = .ok (.getfield 34, 3) := dk_180 0 34 (dk_at dksX4_next_7 0 rfl rfl)
theorem dX4_next_166 : decode cX4_next 166 = .ok (.isub, 1) := dk_100 (dk_at dksX4_next_7 3 rfl rfl)
theorem dX4_next_167 : decode cX4_next 167 = .ok (.iconst 5, 1) := dk_8 (dk_at dksX4_next_7 4 rfl rfl)
theorem dX4_next_168 : decode cX4_next 168 = .ok (.if_icmp .ge 7, 3) := dk_162 0 7 (dk_at dksX4_next_7 5 rfl rfl)
theorem dX4_next_171 : decode cX4_next 171 = .ok (.iconst 2, 1) := dk_5 (dk_at dksX4_next_7 8 rfl rfl)
theorem dX4_next_172 : decode cX4_next 172 = .ok (.goto 4, 3) := dk_167 0 4 (dk_at dksX4_next_7 9 rfl rfl)
theorem dX4_next_175 : decode cX4_next 175 = .ok (.iconst 1, 1) := dk_4 (dk_at dksX4_next_7 12 rfl rfl)
theorem dX4_next_176 : decode cX4_next 176 = .ok (.putfield 81, 3) := dk_181 0 81 (dk_at dksX4_next_7 13 rfl rfl)
theorem dX4_next_179 : decode cX4_next 179 = .ok (.goto 36, 3) := dk_167 0 36 (dk_at dksX4_next_7 16 rfl rfl)
theorem dX4_next_182 : decode cX4_next 182 = .ok (.aload_n 0, 1) := dk_42 (dk_at dksX4_next_7 19 rfl rfl)
theorem dX4_next_183 : decode cX4_next 183 = .ok (.aload_n 0, 1) := dk_42 (dk_at dksX4_next_7 20 rfl rfl)
theorem dX4_next_184 : decode cX4_next 184 = .ok (.aload_n 0, 1) := dk_42 (dk_at dksX4_next_7 21 rfl rfl)
theorem dX4_next_185 : decode cX4_next 185 = .ok (.invokevirtual 26, 3) := dk_182 0 26 (dk_at dksX4_next_8 0 rfl rfl)
theorem dX4_next_188 : decode cX4_next 188 = .ok (.invokevirtual 97, 3) := dk_182 0 97 (dk_at dksX4_next_8 3 rfl rfl)
theorem dX4_next_191 : decode cX4_next 191 = .ok (.ifCond .eq 10, 3) := dk_153 0 10 (dk_at dksX4_next_8 6 rfl rfl)
theorem dX4_next_194 : decode cX4_next 194 = .ok (.aload_n 0, 1) := dk_42 (dk_at dksX4_next_8 9 rfl rfl)
theorem dX4_next_195 : decode cX4_next 195 = .ok (.invokevirtual 26, 3) := dk_182 0 26 (dk_at dksX4_next_8 10 rfl rfl)
theorem dX4_next_198 : decode cX4_next 198 = .ok (.goto 4, 3) := dk_167 0 4 (dk_at dksX4_next_8 13 rfl rfl)
theorem dX4_next_201 : decode cX4_next 201 = .ok (.iconst 1, 1) := dk_4 (dk_at dksX4_next_8 16 rfl rfl)
theorem dX4_next_202 : decode cX4_next 202 = .ok (.putfield 81, 3) := dk_181 0 81 (dk_at dksX4_next_8 17 rfl rfl)
theorem dX4_next_205 : decode cX4_next 205 = .ok (.aload_n 0, 1) := dk_42 (dk_at dksX4_next_8 20 rfl rfl)
theorem dX4_next_206 : decode cX4_next 206 = .ok (.dup, 1) := dk_89 (dk_at dksX4_next_8 21 rfl rfl)
theorem dX4_next_207 : decode cX4_next 207 = .ok (.getfield 15, 3) := dk_180 0 15 (dk_at dksX4_next_9 0 rfl rfl)
theorem dX4_next_210 : decode cX4_next 210 = .ok (.iconst 1, 1) := dk_4 (dk_at dksX4_next_9 3 rfl rfl)
theorem dX4_next_211 : decode cX4_next 211 = .ok (.iadd, 1) := dk_96 (dk_at dksX4_next_9 4 rfl rfl)
theorem dX4_next_212 : decode cX4_next 212 = .ok (.putfield 15, 3) := dk_181 0 15 (dk_at dksX4_next_9 5 rfl rfl)
theorem dX4_next_215 : decode cX4_next 215 = .ok (.return_, 1) := dk_177 (dk_at dksX4_next_9 8 rfl rfl)
abbrev cX4_see : ByteArray := prog_10_method_2_code
def yX4_see : MethodName := ⟨RX4, "see", "()I"⟩
def dkwX4_see_1 : List UInt8 := [180, 0, 15, 51, 17, 0, 255, 126, 167, 0, 4, 2, 172]
abbrev dktX4_see_1 : List UInt8 := dkwX4_see_1 ++ []
def dkwX4_see_0 : List UInt8 := [42, 180, 0, 15, 42, 180, 0, 3, 180, 0, 19, 162, 0, 22, 42, 180, 0, 3, 180, 0, 22, 42]
abbrev dktX4_see_0 : List UInt8 := dkwX4_see_0 ++ dktX4_see_1
theorem dksX4_see_0 : cX4_see.data.toList.drop 0 = dktX4_see_0 := by decide +kernel
theorem dksX4_see_1 : cX4_see.data.toList.drop 22 = dktX4_see_1 := dk_seg dksX4_see_0 22 rfl rfl
theorem dX4_see_0 : decode cX4_see 0 = .ok (.aload_n 0, 1) := dk_42 (dk_at dksX4_see_0 0 rfl rfl)
theorem dX4_see_1 : decode cX4_see 1 = .ok (.getfield 15, 3) := dk_180 0 15 (dk_at dksX4_see_0 1 rfl rfl)
theorem dX4_see_4 : decode cX4_see 4 = .ok (.aload_n 0, 1) := dk_42 (dk_at dksX4_see_0 4 rfl rfl)
theorem dX4_see_5 : decode cX4_see 5 = .ok (.getfield 3, 3) := dk_180 0 3 (dk_at dksX4_see_0 5 rfl rfl)
theorem dX4_see_8 : decode cX4_see 8 = .ok (.getfield 19, 3) := dk_180 0 19 (dk_at dksX4_see_0 8 rfl rfl)
theorem dX4_see_11 : decode cX4_see 11 = .ok (.if_icmp .ge 22, 3) := dk_162 0 22 (dk_at dksX4_see_0 11 rfl rfl)
theorem dX4_see_14 : decode cX4_see 14 = .ok (.aload_n 0, 1) := dk_42 (dk_at dksX4_see_0 14 rfl rfl)
theorem dX4_see_15 : decode cX4_see 15 = .ok (.getfield 3, 3) := dk_180 0 3 (dk_at dksX4_see_0 15 rfl rfl)
theorem dX4_see_18 : decode cX4_see 18 = .ok (.getfield 22, 3) := dk_180 0 22 (dk_at dksX4_see_0 18 rfl rfl)
theorem dX4_see_21 : decode cX4_see 21 = .ok (.aload_n 0, 1) := dk_42 (dk_at dksX4_see_0 21 rfl rfl)
theorem dX4_see_22 : decode cX4_see 22 = .ok (.getfield 15, 3) := dk_180 0 15 (dk_at dksX4_see_1 0 rfl rfl)
theorem dX4_see_25 : decode cX4_see 25 = .ok (.baload, 1) := dk_51 (dk_at dksX4_see_1 3 rfl rfl)
theorem dX4_see_26 : decode cX4_see 26 = .ok (.sipush 255, 3) := dk_17 0 255 (dk_at dksX4_see_1 4 rfl rfl)
theorem dX4_see_29 : decode cX4_see 29 = .ok (.iand, 1) := dk_126 (dk_at dksX4_see_1 7 rfl rfl)
theorem dX4_see_30 : decode cX4_see 30 = .ok (.goto 4, 3) := dk_167 0 4 (dk_at dksX4_see_1 8 rfl rfl)
theorem dX4_see_33 : decode cX4_see 33 = .ok (.iconst (-1), 1) := dk_2 (dk_at dksX4_see_1 11 rfl rfl)
theorem dX4_see_34 : decode cX4_see 34 = .ok (.ireturn, 1) := dk_172 (dk_at dksX4_see_1 12 rfl rfl)
abbrev cX4_isLetter : ByteArray := prog_10_method_3_code
def yX4_isLetter : MethodName := ⟨RX4, "isLetter", "()Z"⟩
def dkwX4_isLetter_1 : List UInt8 := [184, 0, 30, 153, 0, 7, 4, 167, 0, 4, 3, 172]
abbrev dktX4_isLetter_1 : List UInt8 := dkwX4_isLetter_1 ++ []
def dkwX4_isLetter_0 : List UInt8 := [42, 182, 0, 26, 16, 97, 16, 122, 184, 0, 30, 154, 0, 17, 42, 182, 0, 26, 16, 65, 16, 90]
abbrev dktX4_isLetter_0 : List UInt8 := dkwX4_isLetter_0 ++ dktX4_isLetter_1
theorem dksX4_isLetter_0 : cX4_isLetter.data.toList.drop 0 = dktX4_isLetter_0 := by decide +kernel
theorem dksX4_isLetter_1 : cX4_isLetter.data.toList.drop 22 = dktX4_isLetter_1 := dk_seg dksX4_isLetter_0 22 rfl rfl
theorem dX4_isLetter_0 : decode cX4_isLetter 0 = .ok (.aload_n 0, 1) := dk_42 (dk_at dksX4_isLetter_0 0 rfl rfl)
theorem dX4_isLetter_1 : decode cX4_isLetter 1 = .ok (.invokevirtual 26, 3) := dk_182 0 26 (dk_at dksX4_isLetter_0 1 rfl rfl)
theorem dX4_isLetter_4 : decode cX4_isLetter 4 = .ok (.bipush 97, 2) := dk_16 97 (dk_at dksX4_isLetter_0 4 rfl rfl)
theorem dX4_isLetter_6 : decode cX4_isLetter 6 = .ok (.bipush 122, 2) := dk_16 122 (dk_at dksX4_isLetter_0 6 rfl rfl)
theorem dX4_isLetter_8 : decode cX4_isLetter 8 = .ok (.invokestatic 30, 3) := dk_184 0 30 (dk_at dksX4_isLetter_0 8 rfl rfl)
theorem dX4_isLetter_11 : decode cX4_isLetter 11 = .ok (.ifCond .ne 17, 3) := dk_154 0 17 (dk_at dksX4_isLetter_0 11 rfl rfl)
theorem dX4_isLetter_14 : decode cX4_isLetter 14 = .ok (.aload_n 0, 1) := dk_42 (dk_at dksX4_isLetter_0 14 rfl rfl)
theorem dX4_isLetter_15 : decode cX4_isLetter 15 = .ok (.invokevirtual 26, 3) := dk_182 0 26 (dk_at dksX4_isLetter_0 15 rfl rfl)
theorem dX4_isLetter_18 : decode cX4_isLetter 18 = .ok (.bipush 65, 2) := dk_16 65 (dk_at dksX4_isLetter_0 18 rfl rfl)
theorem dX4_isLetter_20 : decode cX4_isLetter 20 = .ok (.bipush 90, 2) := dk_16 90 (dk_at dksX4_isLetter_0 20 rfl rfl)
theorem dX4_isLetter_22 : decode cX4_isLetter 22 = .ok (.invokestatic 30, 3) := dk_184 0 30 (dk_at dksX4_isLetter_1 0 rfl rfl)
theorem dX4_isLetter_25 : decode cX4_isLetter 25 = .ok (.ifCond .eq 7, 3) := dk_153 0 7 (dk_at dksX4_isLetter_1 3 rfl rfl)
theorem dX4_isLetter_28 : decode cX4_isLetter 28 = .ok (.iconst 1, 1) := dk_4 (dk_at dksX4_isLetter_1 6 rfl rfl)
theorem dX4_isLetter_29 : decode cX4_isLetter 29 = .ok (.goto 4, 3) := dk_167 0 4 (dk_at dksX4_isLetter_1 7 rfl rfl)
theorem dX4_isLetter_32 : decode cX4_isLetter 32 = .ok (.iconst 0, 1) := dk_3 (dk_at dksX4_isLetter_1 10 rfl rfl)
theorem dX4_isLetter_33 : decode cX4_isLetter 33 = .ok (.ireturn, 1) := dk_172 (dk_at dksX4_isLetter_1 11 rfl rfl)
abbrev cX4_keyword : ByteArray := prog_10_method_7_code
def yX4_keyword : MethodName := ⟨RX4, "keyword", "()I"⟩
def dkwX4_keyword_2 : List UInt8 := [18, 76, 182, 0, 48, 153, 0, 8, 16, 7, 167, 0, 7, 42, 182, 0, 78, 172]
abbrev dktX4_keyword_2 : List UInt8 := dkwX4_keyword_2 ++ []
def dkwX4_keyword_1 : List UInt8 := [18, 72, 182, 0, 48, 153, 0, 5, 8, 172, 42, 18, 74, 182, 0, 48, 153, 0, 6, 16, 6, 172, 42]
abbrev dktX4_keyword_1 : List UInt8 := dkwX4_keyword_1 ++ dktX4_keyword_2
def dkwX4_keyword_0 : List UInt8 := [42, 18, 68, 182, 0, 48, 153, 0, 5, 6, 172, 42, 18, 70, 182, 0, 48, 153, 0, 5, 7, 172, 42]
abbrev dktX4_keyword_0 : List UInt8 := dkwX4_keyword_0 ++ dktX4_keyword_1
theorem dksX4_keyword_0 : cX4_keyword.data.toList.drop 0 = dktX4_keyword_0 := by decide +kernel
theorem dksX4_keyword_1 : cX4_keyword.data.toList.drop 23 = dktX4_keyword_1 := dk_seg dksX4_keyword_0 23 rfl rfl
theorem dksX4_keyword_2 : cX4_keyword.data.toList.drop 46 = dktX4_keyword_2 := dk_seg dksX4_keyword_1 23 rfl rfl
theorem dX4_keyword_0 : decode cX4_keyword 0 = .ok (.aload_n 0, 1) := dk_42 (dk_at dksX4_keyword_0 0 rfl rfl)
theorem dX4_keyword_1 : decode cX4_keyword 1 = .ok (.ldc 68, 2) := dk_18 68 (dk_at dksX4_keyword_0 1 rfl rfl)
theorem dX4_keyword_3 : decode cX4_keyword 3 = .ok (.invokevirtual 48, 3) := dk_182 0 48 (dk_at dksX4_keyword_0 3 rfl rfl)
theorem dX4_keyword_6 : decode cX4_keyword 6 = .ok (.ifCond .eq 5, 3) := dk_153 0 5 (dk_at dksX4_keyword_0 6 rfl rfl)
theorem dX4_keyword_9 : decode cX4_keyword 9 = .ok (.iconst 3, 1) := dk_6 (dk_at dksX4_keyword_0 9 rfl rfl)
theorem dX4_keyword_10 : decode cX4_keyword 10 = .ok (.ireturn, 1) := dk_172 (dk_at dksX4_keyword_0 10 rfl rfl)
theorem dX4_keyword_11 : decode cX4_keyword 11 = .ok (.aload_n 0, 1) := dk_42 (dk_at dksX4_keyword_0 11 rfl rfl)
theorem dX4_keyword_12 : decode cX4_keyword 12 = .ok (.ldc 70, 2) := dk_18 70 (dk_at dksX4_keyword_0 12 rfl rfl)
theorem dX4_keyword_14 : decode cX4_keyword 14 = .ok (.invokevirtual 48, 3) := dk_182 0 48 (dk_at dksX4_keyword_0 14 rfl rfl)
theorem dX4_keyword_17 : decode cX4_keyword 17 = .ok (.ifCond .eq 5, 3) := dk_153 0 5 (dk_at dksX4_keyword_0 17 rfl rfl)
theorem dX4_keyword_20 : decode cX4_keyword 20 = .ok (.iconst 4, 1) := dk_7 (dk_at dksX4_keyword_0 20 rfl rfl)
theorem dX4_keyword_21 : decode cX4_keyword 21 = .ok (.ireturn, 1) := dk_172 (dk_at dksX4_keyword_0 21 rfl rfl)
theorem dX4_keyword_22 : decode cX4_keyword 22 = .ok (.aload_n 0, 1) := dk_42 (dk_at dksX4_keyword_0 22 rfl rfl)
theorem dX4_keyword_23 : decode cX4_keyword 23 = .ok (.ldc 72, 2) := dk_18 72 (dk_at dksX4_keyword_1 0 rfl rfl)
theorem dX4_keyword_25 : decode cX4_keyword 25 = .ok (.invokevirtual 48, 3) := dk_182 0 48 (dk_at dksX4_keyword_1 2 rfl rfl)
theorem dX4_keyword_28 : decode cX4_keyword 28 = .ok (.ifCond .eq 5, 3) := dk_153 0 5 (dk_at dksX4_keyword_1 5 rfl rfl)
theorem dX4_keyword_31 : decode cX4_keyword 31 = .ok (.iconst 5, 1) := dk_8 (dk_at dksX4_keyword_1 8 rfl rfl)
theorem dX4_keyword_32 : decode cX4_keyword 32 = .ok (.ireturn, 1) := dk_172 (dk_at dksX4_keyword_1 9 rfl rfl)
theorem dX4_keyword_33 : decode cX4_keyword 33 = .ok (.aload_n 0, 1) := dk_42 (dk_at dksX4_keyword_1 10 rfl rfl)
theorem dX4_keyword_34 : decode cX4_keyword 34 = .ok (.ldc 74, 2) := dk_18 74 (dk_at dksX4_keyword_1 11 rfl rfl)
theorem dX4_keyword_36 : decode cX4_keyword 36 = .ok (.invokevirtual 48, 3) := dk_182 0 48 (dk_at dksX4_keyword_1 13 rfl rfl)
theorem dX4_keyword_39 : decode cX4_keyword 39 = .ok (.ifCond .eq 6, 3) := dk_153 0 6 (dk_at dksX4_keyword_1 16 rfl rfl)
theorem dX4_keyword_42 : decode cX4_keyword 42 = .ok (.bipush 6, 2) := dk_16 6 (dk_at dksX4_keyword_1 19 rfl rfl)
theorem dX4_keyword_44 : decode cX4_keyword 44 = .ok (.ireturn, 1) := dk_172 (dk_at dksX4_keyword_1 21 rfl rfl)
theorem dX4_keyword_45 : decode cX4_keyword 45 = .ok (.aload_n 0, 1) := dk_42 (dk_at dksX4_keyword_1 22 rfl rfl)
theorem dX4_keyword_46 : decode cX4_keyword 46 = .ok (.ldc 76, 2) := dk_18 76 (dk_at dksX4_keyword_2 0 rfl rfl)
theorem dX4_keyword_48 : decode cX4_keyword 48 = .ok (.invokevirtual 48, 3) := dk_182 0 48 (dk_at dksX4_keyword_2 2 rfl rfl)
theorem dX4_keyword_51 : decode cX4_keyword 51 = .ok (.ifCond .eq 8, 3) := dk_153 0 8 (dk_at dksX4_keyword_2 5 rfl rfl)
theorem dX4_keyword_54 : decode cX4_keyword 54 = .ok (.bipush 7, 2) := dk_16 7 (dk_at dksX4_keyword_2 8 rfl rfl)
theorem dX4_keyword_56 : decode cX4_keyword 56 = .ok (.goto 7, 3) := dk_167 0 7 (dk_at dksX4_keyword_2 10 rfl rfl)
theorem dX4_keyword_59 : decode cX4_keyword 59 = .ok (.aload_n 0, 1) := dk_42 (dk_at dksX4_keyword_2 13 rfl rfl)
theorem dX4_keyword_60 : decode cX4_keyword 60 = .ok (.invokevirtual 78, 3) := dk_182 0 78 (dk_at dksX4_keyword_2 14 rfl rfl)
theorem dX4_keyword_63 : decode cX4_keyword 63 = .ok (.ireturn, 1) := dk_172 (dk_at dksX4_keyword_2 17 rfl rfl)
abbrev cX4_is : ByteArray := prog_10_method_5_code
def yX4_is : MethodName := ⟨RX4, "is", "(Ljava/lang/String;)Z"⟩
def dkwX4_is_2 : List UInt8 := [96, 51, 43, 29, 182, 0, 42, 160, 0, 7, 4, 167, 0, 4, 3, 61, 132, 3, 1, 167, 255, 213, 28, 172]
abbrev dktX4_is_2 : List UInt8 := dkwX4_is_2 ++ []
def dkwX4_is_1 : List UInt8 := [29, 43, 182, 0, 37, 162, 0, 41, 28, 153, 0, 37, 42, 180, 0, 3, 180, 0, 22, 42, 180, 0, 34, 29]
abbrev dktX4_is_1 : List UInt8 := dkwX4_is_1 ++ dktX4_is_2
def dkwX4_is_0 : List UInt8 := [42, 180, 0, 15, 42, 180, 0, 34, 100, 43, 182, 0, 37, 160, 0, 7, 4, 167, 0, 4, 3, 61, 3, 62]
abbrev dktX4_is_0 : List UInt8 := dkwX4_is_0 ++ dktX4_is_1
theorem dksX4_is_0 : cX4_is.data.toList.drop 0 = dktX4_is_0 := by decide +kernel
theorem dksX4_is_1 : cX4_is.data.toList.drop 24 = dktX4_is_1 := dk_seg dksX4_is_0 24 rfl rfl
theorem dksX4_is_2 : cX4_is.data.toList.drop 48 = dktX4_is_2 := dk_seg dksX4_is_1 24 rfl rfl
theorem dX4_is_0 : decode cX4_is 0 = .ok (.aload_n 0, 1) := dk_42 (dk_at dksX4_is_0 0 rfl rfl)
theorem dX4_is_1 : decode cX4_is 1 = .ok (.getfield 15, 3) := dk_180 0 15 (dk_at dksX4_is_0 1 rfl rfl)
theorem dX4_is_4 : decode cX4_is 4 = .ok (.aload_n 0, 1) := dk_42 (dk_at dksX4_is_0 4 rfl rfl)
theorem dX4_is_5 : decode cX4_is 5 = .ok (.getfield 34, 3) := dk_180 0 34 (dk_at dksX4_is_0 5 rfl rfl)
theorem dX4_is_8 : decode cX4_is 8 = .ok (.isub, 1) := dk_100 (dk_at dksX4_is_0 8 rfl rfl)
theorem dX4_is_9 : decode cX4_is 9 = .ok (.aload_n 1, 1) := dk_43 (dk_at dksX4_is_0 9 rfl rfl)
theorem dX4_is_10 : decode cX4_is 10 = .ok (.invokevirtual 37, 3) := dk_182 0 37 (dk_at dksX4_is_0 10 rfl rfl)
theorem dX4_is_13 : decode cX4_is 13 = .ok (.if_icmp .ne 7, 3) := dk_160 0 7 (dk_at dksX4_is_0 13 rfl rfl)
theorem dX4_is_16 : decode cX4_is 16 = .ok (.iconst 1, 1) := dk_4 (dk_at dksX4_is_0 16 rfl rfl)
theorem dX4_is_17 : decode cX4_is 17 = .ok (.goto 4, 3) := dk_167 0 4 (dk_at dksX4_is_0 17 rfl rfl)
theorem dX4_is_20 : decode cX4_is 20 = .ok (.iconst 0, 1) := dk_3 (dk_at dksX4_is_0 20 rfl rfl)
theorem dX4_is_21 : decode cX4_is 21 = .ok (.istore_n 2, 1) := dk_61 (dk_at dksX4_is_0 21 rfl rfl)
theorem dX4_is_22 : decode cX4_is 22 = .ok (.iconst 0, 1) := dk_3 (dk_at dksX4_is_0 22 rfl rfl)
theorem dX4_is_23 : decode cX4_is 23 = .ok (.istore_n 3, 1) := dk_62 (dk_at dksX4_is_0 23 rfl rfl)
theorem dX4_is_24 : decode cX4_is 24 = .ok (.iload_n 3, 1) := dk_29 (dk_at dksX4_is_1 0 rfl rfl)
theorem dX4_is_25 : decode cX4_is 25 = .ok (.aload_n 1, 1) := dk_43 (dk_at dksX4_is_1 1 rfl rfl)
theorem dX4_is_26 : decode cX4_is 26 = .ok (.invokevirtual 37, 3) := dk_182 0 37 (dk_at dksX4_is_1 2 rfl rfl)
theorem dX4_is_29 : decode cX4_is 29 = .ok (.if_icmp .ge 41, 3) := dk_162 0 41 (dk_at dksX4_is_1 5 rfl rfl)
theorem dX4_is_32 : decode cX4_is 32 = .ok (.iload_n 2, 1) := dk_28 (dk_at dksX4_is_1 8 rfl rfl)
theorem dX4_is_33 : decode cX4_is 33 = .ok (.ifCond .eq 37, 3) := dk_153 0 37 (dk_at dksX4_is_1 9 rfl rfl)
theorem dX4_is_36 : decode cX4_is 36 = .ok (.aload_n 0, 1) := dk_42 (dk_at dksX4_is_1 12 rfl rfl)
theorem dX4_is_37 : decode cX4_is 37 = .ok (.getfield 3, 3) := dk_180 0 3 (dk_at dksX4_is_1 13 rfl rfl)
theorem dX4_is_40 : decode cX4_is 40 = .ok (.getfield 22, 3) := dk_180 0 22 (dk_at dksX4_is_1 16 rfl rfl)
theorem dX4_is_43 : decode cX4_is 43 = .ok (.aload_n 0, 1) := dk_42 (dk_at dksX4_is_1 19 rfl rfl)
theorem dX4_is_44 : decode cX4_is 44 = .ok (.getfield 34, 3) := dk_180 0 34 (dk_at dksX4_is_1 20 rfl rfl)
theorem dX4_is_47 : decode cX4_is 47 = .ok (.iload_n 3, 1) := dk_29 (dk_at dksX4_is_1 23 rfl rfl)
theorem dX4_is_48 : decode cX4_is 48 = .ok (.iadd, 1) := dk_96 (dk_at dksX4_is_2 0 rfl rfl)
theorem dX4_is_49 : decode cX4_is 49 = .ok (.baload, 1) := dk_51 (dk_at dksX4_is_2 1 rfl rfl)
theorem dX4_is_50 : decode cX4_is 50 = .ok (.aload_n 1, 1) := dk_43 (dk_at dksX4_is_2 2 rfl rfl)
theorem dX4_is_51 : decode cX4_is 51 = .ok (.iload_n 3, 1) := dk_29 (dk_at dksX4_is_2 3 rfl rfl)
theorem dX4_is_52 : decode cX4_is 52 = .ok (.invokevirtual 42, 3) := dk_182 0 42 (dk_at dksX4_is_2 4 rfl rfl)
theorem dX4_is_55 : decode cX4_is 55 = .ok (.if_icmp .ne 7, 3) := dk_160 0 7 (dk_at dksX4_is_2 7 rfl rfl)
theorem dX4_is_58 : decode cX4_is 58 = .ok (.iconst 1, 1) := dk_4 (dk_at dksX4_is_2 10 rfl rfl)
theorem dX4_is_59 : decode cX4_is 59 = .ok (.goto 4, 3) := dk_167 0 4 (dk_at dksX4_is_2 11 rfl rfl)
theorem dX4_is_62 : decode cX4_is 62 = .ok (.iconst 0, 1) := dk_3 (dk_at dksX4_is_2 14 rfl rfl)
theorem dX4_is_63 : decode cX4_is 63 = .ok (.istore_n 2, 1) := dk_61 (dk_at dksX4_is_2 15 rfl rfl)
theorem dX4_is_64 : decode cX4_is 64 = .ok (.iinc 3 1, 3) := dk_132 3 1 (dk_at dksX4_is_2 16 rfl rfl)
theorem dX4_is_67 : decode cX4_is 67 = .ok (.goto (-43), 3) := dk_167 255 213 (dk_at dksX4_is_2 19 rfl rfl)
theorem dX4_is_70 : decode cX4_is 70 = .ok (.iload_n 2, 1) := dk_28 (dk_at dksX4_is_2 22 rfl rfl)
theorem dX4_is_71 : decode cX4_is 71 = .ok (.ireturn, 1) := dk_172 (dk_at dksX4_is_2 23 rfl rfl)
abbrev cX4_known : ByteArray := prog_10_method_6_code
def yX4_known : MethodName := ⟨RX4, "known", "()I"⟩
def dkwX4_known_5 : List UInt8 := [167, 0, 4, 4, 172]
abbrev dktX4_known_5 : List UInt8 := dkwX4_known_5 ++ []
def dkwX4_known_4 : List UInt8 := [18, 64, 182, 0, 48, 153, 0, 7, 17, 0, 187, 172, 42, 18, 66, 182, 0, 48, 153, 0, 9, 17, 0, 188]
abbrev dktX4_known_4 : List UInt8 := dkwX4_known_4 ++ dktX4_known_5
def dkwX4_known_3 : List UInt8 := [182, 0, 48, 153, 0, 7, 17, 0, 185, 172, 42, 18, 62, 182, 0, 48, 153, 0, 7, 17, 0, 186, 172, 42]
abbrev dktX4_known_3 : List UInt8 := dkwX4_known_3 ++ dktX4_known_4
def dkwX4_known_2 : List UInt8 := [153, 0, 7, 17, 0, 183, 172, 42, 18, 58, 182, 0, 48, 153, 0, 7, 17, 0, 184, 172, 42, 18, 60]
abbrev dktX4_known_2 : List UInt8 := dkwX4_known_2 ++ dktX4_known_3
def dkwX4_known_1 : List UInt8 := [17, 0, 181, 172, 42, 18, 54, 182, 0, 48, 153, 0, 7, 17, 0, 182, 172, 42, 18, 56, 182, 0, 48]
abbrev dktX4_known_1 : List UInt8 := dkwX4_known_1 ++ dktX4_known_2
def dkwX4_known_0 : List UInt8 := [42, 18, 46, 182, 0, 48, 153, 0, 7, 17, 0, 180, 172, 42, 18, 52, 182, 0, 48, 153, 0, 7]
abbrev dktX4_known_0 : List UInt8 := dkwX4_known_0 ++ dktX4_known_1
theorem dksX4_known_0 : cX4_known.data.toList.drop 0 = dktX4_known_0 := by decide +kernel
theorem dksX4_known_1 : cX4_known.data.toList.drop 22 = dktX4_known_1 := dk_seg dksX4_known_0 22 rfl rfl
theorem dksX4_known_2 : cX4_known.data.toList.drop 45 = dktX4_known_2 := dk_seg dksX4_known_1 23 rfl rfl
theorem dksX4_known_3 : cX4_known.data.toList.drop 68 = dktX4_known_3 := dk_seg dksX4_known_2 23 rfl rfl
theorem dksX4_known_4 : cX4_known.data.toList.drop 92 = dktX4_known_4 := dk_seg dksX4_known_3 24 rfl rfl
theorem dksX4_known_5 : cX4_known.data.toList.drop 116 = dktX4_known_5 := dk_seg dksX4_known_4 24 rfl rfl
theorem dX4_known_0 : decode cX4_known 0 = .ok (.aload_n 0, 1) := dk_42 (dk_at dksX4_known_0 0 rfl rfl)
theorem dX4_known_1 : decode cX4_known 1 = .ok (.ldc 46, 2) := dk_18 46 (dk_at dksX4_known_0 1 rfl rfl)
theorem dX4_known_3 : decode cX4_known 3 = .ok (.invokevirtual 48, 3) := dk_182 0 48 (dk_at dksX4_known_0 3 rfl rfl)
theorem dX4_known_6 : decode cX4_known 6 = .ok (.ifCond .eq 7, 3) := dk_153 0 7 (dk_at dksX4_known_0 6 rfl rfl)
theorem dX4_known_9 : decode cX4_known 9 = .ok (.sipush 180, 3) := dk_17 0 180 (dk_at dksX4_known_0 9 rfl rfl)
theorem dX4_known_12 : decode cX4_known 12 = .ok (.ireturn, 1) := dk_172 (dk_at dksX4_known_0 12 rfl rfl)
theorem dX4_known_13 : decode cX4_known 13 = .ok (.aload_n 0, 1) := dk_42 (dk_at dksX4_known_0 13 rfl rfl)
theorem dX4_known_14 : decode cX4_known 14 = .ok (.ldc 52, 2) := dk_18 52 (dk_at dksX4_known_0 14 rfl rfl)
theorem dX4_known_16 : decode cX4_known 16 = .ok (.invokevirtual 48, 3) := dk_182 0 48 (dk_at dksX4_known_0 16 rfl rfl)
theorem dX4_known_19 : decode cX4_known 19 = .ok (.ifCond .eq 7, 3) := dk_153 0 7 (dk_at dksX4_known_0 19 rfl rfl)
theorem dX4_known_22 : decode cX4_known 22 = .ok (.sipush 181, 3) := dk_17 0 181 (dk_at dksX4_known_1 0 rfl rfl)
theorem dX4_known_25 : decode cX4_known 25 = .ok (.ireturn, 1) := dk_172 (dk_at dksX4_known_1 3 rfl rfl)
theorem dX4_known_26 : decode cX4_known 26 = .ok (.aload_n 0, 1) := dk_42 (dk_at dksX4_known_1 4 rfl rfl)
theorem dX4_known_27 : decode cX4_known 27 = .ok (.ldc 54, 2) := dk_18 54 (dk_at dksX4_known_1 5 rfl rfl)
theorem dX4_known_29 : decode cX4_known 29 = .ok (.invokevirtual 48, 3) := dk_182 0 48 (dk_at dksX4_known_1 7 rfl rfl)
theorem dX4_known_32 : decode cX4_known 32 = .ok (.ifCond .eq 7, 3) := dk_153 0 7 (dk_at dksX4_known_1 10 rfl rfl)
theorem dX4_known_35 : decode cX4_known 35 = .ok (.sipush 182, 3) := dk_17 0 182 (dk_at dksX4_known_1 13 rfl rfl)
theorem dX4_known_38 : decode cX4_known 38 = .ok (.ireturn, 1) := dk_172 (dk_at dksX4_known_1 16 rfl rfl)
theorem dX4_known_39 : decode cX4_known 39 = .ok (.aload_n 0, 1) := dk_42 (dk_at dksX4_known_1 17 rfl rfl)
theorem dX4_known_40 : decode cX4_known 40 = .ok (.ldc 56, 2) := dk_18 56 (dk_at dksX4_known_1 18 rfl rfl)
theorem dX4_known_42 : decode cX4_known 42 = .ok (.invokevirtual 48, 3) := dk_182 0 48 (dk_at dksX4_known_1 20 rfl rfl)
theorem dX4_known_45 : decode cX4_known 45 = .ok (.ifCond .eq 7, 3) := dk_153 0 7 (dk_at dksX4_known_2 0 rfl rfl)
theorem dX4_known_48 : decode cX4_known 48 = .ok (.sipush 183, 3) := dk_17 0 183 (dk_at dksX4_known_2 3 rfl rfl)
theorem dX4_known_51 : decode cX4_known 51 = .ok (.ireturn, 1) := dk_172 (dk_at dksX4_known_2 6 rfl rfl)
theorem dX4_known_52 : decode cX4_known 52 = .ok (.aload_n 0, 1) := dk_42 (dk_at dksX4_known_2 7 rfl rfl)
theorem dX4_known_53 : decode cX4_known 53 = .ok (.ldc 58, 2) := dk_18 58 (dk_at dksX4_known_2 8 rfl rfl)
theorem dX4_known_55 : decode cX4_known 55 = .ok (.invokevirtual 48, 3) := dk_182 0 48 (dk_at dksX4_known_2 10 rfl rfl)
theorem dX4_known_58 : decode cX4_known 58 = .ok (.ifCond .eq 7, 3) := dk_153 0 7 (dk_at dksX4_known_2 13 rfl rfl)
theorem dX4_known_61 : decode cX4_known 61 = .ok (.sipush 184, 3) := dk_17 0 184 (dk_at dksX4_known_2 16 rfl rfl)
theorem dX4_known_64 : decode cX4_known 64 = .ok (.ireturn, 1) := dk_172 (dk_at dksX4_known_2 19 rfl rfl)
theorem dX4_known_65 : decode cX4_known 65 = .ok (.aload_n 0, 1) := dk_42 (dk_at dksX4_known_2 20 rfl rfl)
theorem dX4_known_66 : decode cX4_known 66 = .ok (.ldc 60, 2) := dk_18 60 (dk_at dksX4_known_2 21 rfl rfl)
theorem dX4_known_68 : decode cX4_known 68 = .ok (.invokevirtual 48, 3) := dk_182 0 48 (dk_at dksX4_known_3 0 rfl rfl)
theorem dX4_known_71 : decode cX4_known 71 = .ok (.ifCond .eq 7, 3) := dk_153 0 7 (dk_at dksX4_known_3 3 rfl rfl)
theorem dX4_known_74 : decode cX4_known 74 = .ok (.sipush 185, 3) := dk_17 0 185 (dk_at dksX4_known_3 6 rfl rfl)
theorem dX4_known_77 : decode cX4_known 77 = .ok (.ireturn, 1) := dk_172 (dk_at dksX4_known_3 9 rfl rfl)
theorem dX4_known_78 : decode cX4_known 78 = .ok (.aload_n 0, 1) := dk_42 (dk_at dksX4_known_3 10 rfl rfl)
theorem dX4_known_79 : decode cX4_known 79 = .ok (.ldc 62, 2) := dk_18 62 (dk_at dksX4_known_3 11 rfl rfl)
theorem dX4_known_81 : decode cX4_known 81 = .ok (.invokevirtual 48, 3) := dk_182 0 48 (dk_at dksX4_known_3 13 rfl rfl)
theorem dX4_known_84 : decode cX4_known 84 = .ok (.ifCond .eq 7, 3) := dk_153 0 7 (dk_at dksX4_known_3 16 rfl rfl)
theorem dX4_known_87 : decode cX4_known 87 = .ok (.sipush 186, 3) := dk_17 0 186 (dk_at dksX4_known_3 19 rfl rfl)
theorem dX4_known_90 : decode cX4_known 90 = .ok (.ireturn, 1) := dk_172 (dk_at dksX4_known_3 22 rfl rfl)
theorem dX4_known_91 : decode cX4_known 91 = .ok (.aload_n 0, 1) := dk_42 (dk_at dksX4_known_3 23 rfl rfl)
theorem dX4_known_92 : decode cX4_known 92 = .ok (.ldc 64, 2) := dk_18 64 (dk_at dksX4_known_4 0 rfl rfl)
theorem dX4_known_94 : decode cX4_known 94 = .ok (.invokevirtual 48, 3) := dk_182 0 48 (dk_at dksX4_known_4 2 rfl rfl)
theorem dX4_known_97 : decode cX4_known 97 = .ok (.ifCond .eq 7, 3) := dk_153 0 7 (dk_at dksX4_known_4 5 rfl rfl)
theorem dX4_known_100 : decode cX4_known 100 = .ok (.sipush 187, 3) := dk_17 0 187 (dk_at dksX4_known_4 8 rfl rfl)
theorem dX4_known_103 : decode cX4_known 103 = .ok (.ireturn, 1) := dk_172 (dk_at dksX4_known_4 11 rfl rfl)
theorem dX4_known_104 : decode cX4_known 104 = .ok (.aload_n 0, 1) := dk_42 (dk_at dksX4_known_4 12 rfl rfl)
theorem dX4_known_105 : decode cX4_known 105 = .ok (.ldc 66, 2) := dk_18 66 (dk_at dksX4_known_4 13 rfl rfl)
theorem dX4_known_107 : decode cX4_known 107 = .ok (.invokevirtual 48, 3) := dk_182 0 48 (dk_at dksX4_known_4 15 rfl rfl)
theorem dX4_known_110 : decode cX4_known 110 = .ok (.ifCond .eq 9, 3) := dk_153 0 9 (dk_at dksX4_known_4 18 rfl rfl)
theorem dX4_known_113 : decode cX4_known 113 = .ok (.sipush 188, 3) := dk_17 0 188 (dk_at dksX4_known_4 21 rfl rfl)
theorem dX4_known_116 : decode cX4_known 116 = .ok (.goto 4, 3) := dk_167 0 4 (dk_at dksX4_known_5 0 rfl rfl)
theorem dX4_known_119 : decode cX4_known 119 = .ok (.iconst 1, 1) := dk_4 (dk_at dksX4_known_5 3 rfl rfl)
theorem dX4_known_120 : decode cX4_known 120 = .ok (.ireturn, 1) := dk_172 (dk_at dksX4_known_5 4 rfl rfl)
abbrev cX4_isDigit : ByteArray := prog_10_method_4_code
def yX4_isDigit : MethodName := ⟨RX4, "isDigit", "()Z"⟩
def dkwX4_isDigit_0 : List UInt8 := [42, 182, 0, 26, 16, 48, 16, 57, 184, 0, 30, 172]
abbrev dktX4_isDigit_0 : List UInt8 := dkwX4_isDigit_0 ++ []
theorem dksX4_isDigit_0 : cX4_isDigit.data.toList.drop 0 = dktX4_isDigit_0 := by decide +kernel
theorem dX4_isDigit_0 : decode cX4_isDigit 0 = .ok (.aload_n 0, 1) := dk_42 (dk_at dksX4_isDigit_0 0 rfl rfl)
theorem dX4_isDigit_1 : decode cX4_isDigit 1 = .ok (.invokevirtual 26, 3) := dk_182 0 26 (dk_at dksX4_isDigit_0 1 rfl rfl)
theorem dX4_isDigit_4 : decode cX4_isDigit 4 = .ok (.bipush 48, 2) := dk_16 48 (dk_at dksX4_isDigit_0 4 rfl rfl)
theorem dX4_isDigit_6 : decode cX4_isDigit 6 = .ok (.bipush 57, 2) := dk_16 57 (dk_at dksX4_isDigit_0 6 rfl rfl)
theorem dX4_isDigit_8 : decode cX4_isDigit 8 = .ok (.invokestatic 30, 3) := dk_184 0 30 (dk_at dksX4_isDigit_0 8 rfl rfl)
theorem dX4_isDigit_11 : decode cX4_isDigit 11 = .ok (.ireturn, 1) := dk_172 (dk_at dksX4_isDigit_0 11 rfl rfl)
abbrev cX4_isMark : ByteArray := prog_10_method_8_code
def yX4_isMark : MethodName := ⟨RX4, "isMark", "(I)Z"⟩
def dkwX4_isMark_2 : List UInt8 := [27, 16, 61, 159, 0, 9, 27, 16, 62, 160, 0, 7, 4, 167, 0, 4, 3, 172]
abbrev dktX4_isMark_2 : List UInt8 := dkwX4_isMark_2 ++ []
def dkwX4_isMark_1 : List UInt8 := [27, 16, 47, 159, 0, 33, 27, 16, 40, 159, 0, 27, 27, 16, 41, 159, 0, 21, 27, 16, 60, 159, 0, 15]
abbrev dktX4_isMark_1 : List UInt8 := dkwX4_isMark_1 ++ dktX4_isMark_2
def dkwX4_isMark_0 : List UInt8 := [27, 16, 59, 159, 0, 57, 27, 16, 43, 159, 0, 51, 27, 16, 45, 159, 0, 45, 27, 16, 42, 159, 0, 39]
abbrev dktX4_isMark_0 : List UInt8 := dkwX4_isMark_0 ++ dktX4_isMark_1
theorem dksX4_isMark_0 : cX4_isMark.data.toList.drop 0 = dktX4_isMark_0 := by decide +kernel
theorem dksX4_isMark_1 : cX4_isMark.data.toList.drop 24 = dktX4_isMark_1 := dk_seg dksX4_isMark_0 24 rfl rfl
theorem dksX4_isMark_2 : cX4_isMark.data.toList.drop 48 = dktX4_isMark_2 := dk_seg dksX4_isMark_1 24 rfl rfl
theorem dX4_isMark_0 : decode cX4_isMark 0 = .ok (.iload_n 1, 1) := dk_27 (dk_at dksX4_isMark_0 0 rfl rfl)
theorem dX4_isMark_1 : decode cX4_isMark 1 = .ok (.bipush 59, 2) := dk_16 59 (dk_at dksX4_isMark_0 1 rfl rfl)
theorem dX4_isMark_3 : decode cX4_isMark 3 = .ok (.if_icmp .eq 57, 3) := dk_159 0 57 (dk_at dksX4_isMark_0 3 rfl rfl)
theorem dX4_isMark_6 : decode cX4_isMark 6 = .ok (.iload_n 1, 1) := dk_27 (dk_at dksX4_isMark_0 6 rfl rfl)
theorem dX4_isMark_7 : decode cX4_isMark 7 = .ok (.bipush 43, 2) := dk_16 43 (dk_at dksX4_isMark_0 7 rfl rfl)
theorem dX4_isMark_9 : decode cX4_isMark 9 = .ok (.if_icmp .eq 51, 3) := dk_159 0 51 (dk_at dksX4_isMark_0 9 rfl rfl)
theorem dX4_isMark_12 : decode cX4_isMark 12 = .ok (.iload_n 1, 1) := dk_27 (dk_at dksX4_isMark_0 12 rfl rfl)
theorem dX4_isMark_13 : decode cX4_isMark 13 = .ok (.bipush 45, 2) := dk_16 45 (dk_at dksX4_isMark_0 13 rfl rfl)
theorem dX4_isMark_15 : decode cX4_isMark 15 = .ok (.if_icmp .eq 45, 3) := dk_159 0 45 (dk_at dksX4_isMark_0 15 rfl rfl)
theorem dX4_isMark_18 : decode cX4_isMark 18 = .ok (.iload_n 1, 1) := dk_27 (dk_at dksX4_isMark_0 18 rfl rfl)
theorem dX4_isMark_19 : decode cX4_isMark 19 = .ok (.bipush 42, 2) := dk_16 42 (dk_at dksX4_isMark_0 19 rfl rfl)
theorem dX4_isMark_21 : decode cX4_isMark 21 = .ok (.if_icmp .eq 39, 3) := dk_159 0 39 (dk_at dksX4_isMark_0 21 rfl rfl)
theorem dX4_isMark_24 : decode cX4_isMark 24 = .ok (.iload_n 1, 1) := dk_27 (dk_at dksX4_isMark_1 0 rfl rfl)
theorem dX4_isMark_25 : decode cX4_isMark 25 = .ok (.bipush 47, 2) := dk_16 47 (dk_at dksX4_isMark_1 1 rfl rfl)
theorem dX4_isMark_27 : decode cX4_isMark 27 = .ok (.if_icmp .eq 33, 3) := dk_159 0 33 (dk_at dksX4_isMark_1 3 rfl rfl)
theorem dX4_isMark_30 : decode cX4_isMark 30 = .ok (.iload_n 1, 1) := dk_27 (dk_at dksX4_isMark_1 6 rfl rfl)
theorem dX4_isMark_31 : decode cX4_isMark 31 = .ok (.bipush 40, 2) := dk_16 40 (dk_at dksX4_isMark_1 7 rfl rfl)
theorem dX4_isMark_33 : decode cX4_isMark 33 = .ok (.if_icmp .eq 27, 3) := dk_159 0 27 (dk_at dksX4_isMark_1 9 rfl rfl)
theorem dX4_isMark_36 : decode cX4_isMark 36 = .ok (.iload_n 1, 1) := dk_27 (dk_at dksX4_isMark_1 12 rfl rfl)
theorem dX4_isMark_37 : decode cX4_isMark 37 = .ok (.bipush 41, 2) := dk_16 41 (dk_at dksX4_isMark_1 13 rfl rfl)
theorem dX4_isMark_39 : decode cX4_isMark 39 = .ok (.if_icmp .eq 21, 3) := dk_159 0 21 (dk_at dksX4_isMark_1 15 rfl rfl)
theorem dX4_isMark_42 : decode cX4_isMark 42 = .ok (.iload_n 1, 1) := dk_27 (dk_at dksX4_isMark_1 18 rfl rfl)
theorem dX4_isMark_43 : decode cX4_isMark 43 = .ok (.bipush 60, 2) := dk_16 60 (dk_at dksX4_isMark_1 19 rfl rfl)
theorem dX4_isMark_45 : decode cX4_isMark 45 = .ok (.if_icmp .eq 15, 3) := dk_159 0 15 (dk_at dksX4_isMark_1 21 rfl rfl)
theorem dX4_isMark_48 : decode cX4_isMark 48 = .ok (.iload_n 1, 1) := dk_27 (dk_at dksX4_isMark_2 0 rfl rfl)
theorem dX4_isMark_49 : decode cX4_isMark 49 = .ok (.bipush 61, 2) := dk_16 61 (dk_at dksX4_isMark_2 1 rfl rfl)
theorem dX4_isMark_51 : decode cX4_isMark 51 = .ok (.if_icmp .eq 9, 3) := dk_159 0 9 (dk_at dksX4_isMark_2 3 rfl rfl)
theorem dX4_isMark_54 : decode cX4_isMark 54 = .ok (.iload_n 1, 1) := dk_27 (dk_at dksX4_isMark_2 6 rfl rfl)
theorem dX4_isMark_55 : decode cX4_isMark 55 = .ok (.bipush 62, 2) := dk_16 62 (dk_at dksX4_isMark_2 7 rfl rfl)
theorem dX4_isMark_57 : decode cX4_isMark 57 = .ok (.if_icmp .ne 7, 3) := dk_160 0 7 (dk_at dksX4_isMark_2 9 rfl rfl)
theorem dX4_isMark_60 : decode cX4_isMark 60 = .ok (.iconst 1, 1) := dk_4 (dk_at dksX4_isMark_2 12 rfl rfl)
theorem dX4_isMark_61 : decode cX4_isMark 61 = .ok (.goto 4, 3) := dk_167 0 4 (dk_at dksX4_isMark_2 13 rfl rfl)
theorem dX4_isMark_64 : decode cX4_isMark 64 = .ok (.iconst 0, 1) := dk_3 (dk_at dksX4_isMark_2 16 rfl rfl)
theorem dX4_isMark_65 : decode cX4_isMark 65 = .ok (.ireturn, 1) := dk_172 (dk_at dksX4_isMark_2 17 rfl rfl)
abbrev cX4_sum : ByteArray := prog_10_method_13_code
def yX4_sum : MethodName := ⟨RX4, "sum", "()LLastWordWood$Term;"⟩
def dkwX4_sum_2 : List UInt8 := [167, 255, 215, 43, 176]
abbrev dktX4_sum_2 : List UInt8 := dkwX4_sum_2 ++ []
def dkwX4_sum_1 : List UInt8 := [180, 0, 81, 61, 42, 182, 0, 106, 187, 0, 116, 89, 43, 28, 42, 182, 0, 112, 183, 0, 118, 76]
abbrev dktX4_sum_1 : List UInt8 := dkwX4_sum_1 ++ dktX4_sum_2
def dkwX4_sum_0 : List UInt8 := [42, 182, 0, 112, 76, 42, 180, 0, 81, 16, 43, 159, 0, 12, 42, 180, 0, 81, 16, 45, 160, 0, 29, 42]
abbrev dktX4_sum_0 : List UInt8 := dkwX4_sum_0 ++ dktX4_sum_1
theorem dksX4_sum_0 : cX4_sum.data.toList.drop 0 = dktX4_sum_0 := by decide +kernel
theorem dksX4_sum_1 : cX4_sum.data.toList.drop 24 = dktX4_sum_1 := dk_seg dksX4_sum_0 24 rfl rfl
theorem dksX4_sum_2 : cX4_sum.data.toList.drop 46 = dktX4_sum_2 := dk_seg dksX4_sum_1 22 rfl rfl
theorem dX4_sum_0 : decode cX4_sum 0 = .ok (.aload_n 0, 1) := dk_42 (dk_at dksX4_sum_0 0 rfl rfl)
theorem dX4_sum_1 : decode cX4_sum 1 = .ok (.invokevirtual 112, 3) := dk_182 0 112 (dk_at dksX4_sum_0 1 rfl rfl)
theorem dX4_sum_4 : decode cX4_sum 4 = .ok (.astore_n 1, 1) := dk_76 (dk_at dksX4_sum_0 4 rfl rfl)
theorem dX4_sum_5 : decode cX4_sum 5 = .ok (.aload_n 0, 1) := dk_42 (dk_at dksX4_sum_0 5 rfl rfl)
theorem dX4_sum_6 : decode cX4_sum 6 = .ok (.getfield 81, 3) := dk_180 0 81 (dk_at dksX4_sum_0 6 rfl rfl)
theorem dX4_sum_9 : decode cX4_sum 9 = .ok (.bipush 43, 2) := dk_16 43 (dk_at dksX4_sum_0 9 rfl rfl)
theorem dX4_sum_11 : decode cX4_sum 11 = .ok (.if_icmp .eq 12, 3) := dk_159 0 12 (dk_at dksX4_sum_0 11 rfl rfl)
theorem dX4_sum_14 : decode cX4_sum 14 = .ok (.aload_n 0, 1) := dk_42 (dk_at dksX4_sum_0 14 rfl rfl)
theorem dX4_sum_15 : decode cX4_sum 15 = .ok (.getfield 81, 3) := dk_180 0 81 (dk_at dksX4_sum_0 15 rfl rfl)
theorem dX4_sum_18 : decode cX4_sum 18 = .ok (.bipush 45, 2) := dk_16 45 (dk_at dksX4_sum_0 18 rfl rfl)
theorem dX4_sum_20 : decode cX4_sum 20 = .ok (.if_icmp .ne 29, 3) := dk_160 0 29 (dk_at dksX4_sum_0 20 rfl rfl)
theorem dX4_sum_23 : decode cX4_sum 23 = .ok (.aload_n 0, 1) := dk_42 (dk_at dksX4_sum_0 23 rfl rfl)
theorem dX4_sum_24 : decode cX4_sum 24 = .ok (.getfield 81, 3) := dk_180 0 81 (dk_at dksX4_sum_1 0 rfl rfl)
theorem dX4_sum_27 : decode cX4_sum 27 = .ok (.istore_n 2, 1) := dk_61 (dk_at dksX4_sum_1 3 rfl rfl)
theorem dX4_sum_28 : decode cX4_sum 28 = .ok (.aload_n 0, 1) := dk_42 (dk_at dksX4_sum_1 4 rfl rfl)
theorem dX4_sum_29 : decode cX4_sum 29 = .ok (.invokevirtual 106, 3) := dk_182 0 106 (dk_at dksX4_sum_1 5 rfl rfl)
theorem dX4_sum_32 : decode cX4_sum 32 = .ok (.new 116, 3) := dk_187 0 116 (dk_at dksX4_sum_1 8 rfl rfl)
theorem dX4_sum_35 : decode cX4_sum 35 = .ok (.dup, 1) := dk_89 (dk_at dksX4_sum_1 11 rfl rfl)
theorem dX4_sum_36 : decode cX4_sum 36 = .ok (.aload_n 1, 1) := dk_43 (dk_at dksX4_sum_1 12 rfl rfl)
theorem dX4_sum_37 : decode cX4_sum 37 = .ok (.iload_n 2, 1) := dk_28 (dk_at dksX4_sum_1 13 rfl rfl)
theorem dX4_sum_38 : decode cX4_sum 38 = .ok (.aload_n 0, 1) := dk_42 (dk_at dksX4_sum_1 14 rfl rfl)
theorem dX4_sum_39 : decode cX4_sum 39 = .ok (.invokevirtual 112, 3) := dk_182 0 112 (dk_at dksX4_sum_1 15 rfl rfl)
theorem dX4_sum_42 : decode cX4_sum 42 = .ok (.invokespecial 118, 3) := dk_183 0 118 (dk_at dksX4_sum_1 18 rfl rfl)
theorem dX4_sum_45 : decode cX4_sum 45 = .ok (.astore_n 1, 1) := dk_76 (dk_at dksX4_sum_1 21 rfl rfl)
theorem dX4_sum_46 : decode cX4_sum 46 = .ok (.goto (-41), 3) := dk_167 255 215 (dk_at dksX4_sum_2 0 rfl rfl)
theorem dX4_sum_49 : decode cX4_sum 49 = .ok (.aload_n 1, 1) := dk_43 (dk_at dksX4_sum_2 3 rfl rfl)
theorem dX4_sum_50 : decode cX4_sum 50 = .ok (.areturn, 1) := dk_176 (dk_at dksX4_sum_2 4 rfl rfl)
abbrev cX4_product : ByteArray := prog_10_method_14_code
def yX4_product : MethodName := ⟨RX4, "product", "()LLastWordWood$Term;"⟩
def dkwX4_product_2 : List UInt8 := [42, 4, 182, 0, 126, 183, 0, 130, 167, 0, 7, 42, 182, 0, 121, 183, 0, 118, 76, 167, 255, 194, 43, 176]
abbrev dktX4_product_2 : List UInt8 := dkwX4_product_2 ++ []
def dkwX4_product_1 : List UInt8 := [180, 0, 81, 61, 42, 182, 0, 106, 187, 0, 116, 89, 43, 28, 28, 16, 47, 160, 0, 18, 187, 0, 124, 89]
abbrev dktX4_product_1 : List UInt8 := dkwX4_product_1 ++ dktX4_product_2
def dkwX4_product_0 : List UInt8 := [42, 182, 0, 121, 76, 42, 180, 0, 81, 16, 42, 159, 0, 12, 42, 180, 0, 81, 16, 47, 160, 0, 50, 42]
abbrev dktX4_product_0 : List UInt8 := dkwX4_product_0 ++ dktX4_product_1
theorem dksX4_product_0 : cX4_product.data.toList.drop 0 = dktX4_product_0 := by decide +kernel
theorem dksX4_product_1 : cX4_product.data.toList.drop 24 = dktX4_product_1 := dk_seg dksX4_product_0 24 rfl rfl
theorem dksX4_product_2 : cX4_product.data.toList.drop 48 = dktX4_product_2 := dk_seg dksX4_product_1 24 rfl rfl
theorem dX4_product_0 : decode cX4_product 0 = .ok (.aload_n 0, 1) := dk_42 (dk_at dksX4_product_0 0 rfl rfl)
theorem dX4_product_1 : decode cX4_product 1 = .ok (.invokevirtual 121, 3) := dk_182 0 121 (dk_at dksX4_product_0 1 rfl rfl)
theorem dX4_product_4 : decode cX4_product 4 = .ok (.astore_n 1, 1) := dk_76 (dk_at dksX4_product_0 4 rfl rfl)
theorem dX4_product_5 : decode cX4_product 5 = .ok (.aload_n 0, 1) := dk_42 (dk_at dksX4_product_0 5 rfl rfl)
theorem dX4_product_6 : decode cX4_product 6 = .ok (.getfield 81, 3) := dk_180 0 81 (dk_at dksX4_product_0 6 rfl rfl)
theorem dX4_product_9 : decode cX4_product 9 = .ok (.bipush 42, 2) := dk_16 42 (dk_at dksX4_product_0 9 rfl rfl)
theorem dX4_product_11 : decode cX4_product 11 = .ok (.if_icmp .eq 12, 3) := dk_159 0 12 (dk_at dksX4_product_0 11 rfl rfl)
theorem dX4_product_14 : decode cX4_product 14 = .ok (.aload_n 0, 1) := dk_42 (dk_at dksX4_product_0 14 rfl rfl)
theorem dX4_product_15 : decode cX4_product 15 = .ok (.getfield 81, 3) := dk_180 0 81 (dk_at dksX4_product_0 15 rfl rfl)
theorem dX4_product_18 : decode cX4_product 18 = .ok (.bipush 47, 2) := dk_16 47 (dk_at dksX4_product_0 18 rfl rfl)
theorem dX4_product_20 : decode cX4_product 20 = .ok (.if_icmp .ne 50, 3) := dk_160 0 50 (dk_at dksX4_product_0 20 rfl rfl)
theorem dX4_product_23 : decode cX4_product 23 = .ok (.aload_n 0, 1) := dk_42 (dk_at dksX4_product_0 23 rfl rfl)
theorem dX4_product_24 : decode cX4_product 24 = .ok (.getfield 81, 3) := dk_180 0 81 (dk_at dksX4_product_1 0 rfl rfl)
theorem dX4_product_27 : decode cX4_product 27 = .ok (.istore_n 2, 1) := dk_61 (dk_at dksX4_product_1 3 rfl rfl)
theorem dX4_product_28 : decode cX4_product 28 = .ok (.aload_n 0, 1) := dk_42 (dk_at dksX4_product_1 4 rfl rfl)
theorem dX4_product_29 : decode cX4_product 29 = .ok (.invokevirtual 106, 3) := dk_182 0 106 (dk_at dksX4_product_1 5 rfl rfl)
theorem dX4_product_32 : decode cX4_product 32 = .ok (.new 116, 3) := dk_187 0 116 (dk_at dksX4_product_1 8 rfl rfl)
theorem dX4_product_35 : decode cX4_product 35 = .ok (.dup, 1) := dk_89 (dk_at dksX4_product_1 11 rfl rfl)
theorem dX4_product_36 : decode cX4_product 36 = .ok (.aload_n 1, 1) := dk_43 (dk_at dksX4_product_1 12 rfl rfl)
theorem dX4_product_37 : decode cX4_product 37 = .ok (.iload_n 2, 1) := dk_28 (dk_at dksX4_product_1 13 rfl rfl)
theorem dX4_product_38 : decode cX4_product 38 = .ok (.iload_n 2, 1) := dk_28 (dk_at dksX4_product_1 14 rfl rfl)
theorem dX4_product_39 : decode cX4_product 39 = .ok (.bipush 47, 2) := dk_16 47 (dk_at dksX4_product_1 15 rfl rfl)
theorem dX4_product_41 : decode cX4_product 41 = .ok (.if_icmp .ne 18, 3) := dk_160 0 18 (dk_at dksX4_product_1 17 rfl rfl)
theorem dX4_product_44 : decode cX4_product 44 = .ok (.new 124, 3) := dk_187 0 124 (dk_at dksX4_product_1 20 rfl rfl)
theorem dX4_product_47 : decode cX4_product 47 = .ok (.dup, 1) := dk_89 (dk_at dksX4_product_1 23 rfl rfl)
theorem dX4_product_48 : decode cX4_product 48 = .ok (.aload_n 0, 1) := dk_42 (dk_at dksX4_product_2 0 rfl rfl)
theorem dX4_product_49 : decode cX4_product 49 = .ok (.iconst 1, 1) := dk_4 (dk_at dksX4_product_2 1 rfl rfl)
theorem dX4_product_50 : decode cX4_product 50 = .ok (.invokevirtual 126, 3) := dk_182 0 126 (dk_at dksX4_product_2 2 rfl rfl)
theorem dX4_product_53 : decode cX4_product 53 = .ok (.invokespecial 130, 3) := dk_183 0 130 (dk_at dksX4_product_2 5 rfl rfl)
theorem dX4_product_56 : decode cX4_product 56 = .ok (.goto 7, 3) := dk_167 0 7 (dk_at dksX4_product_2 8 rfl rfl)
theorem dX4_product_59 : decode cX4_product 59 = .ok (.aload_n 0, 1) := dk_42 (dk_at dksX4_product_2 11 rfl rfl)
theorem dX4_product_60 : decode cX4_product 60 = .ok (.invokevirtual 121, 3) := dk_182 0 121 (dk_at dksX4_product_2 12 rfl rfl)
theorem dX4_product_63 : decode cX4_product 63 = .ok (.invokespecial 118, 3) := dk_183 0 118 (dk_at dksX4_product_2 15 rfl rfl)
theorem dX4_product_66 : decode cX4_product 66 = .ok (.astore_n 1, 1) := dk_76 (dk_at dksX4_product_2 18 rfl rfl)
theorem dX4_product_67 : decode cX4_product 67 = .ok (.goto (-62), 3) := dk_167 255 194 (dk_at dksX4_product_2 19 rfl rfl)
theorem dX4_product_70 : decode cX4_product 70 = .ok (.aload_n 1, 1) := dk_43 (dk_at dksX4_product_2 22 rfl rfl)
theorem dX4_product_71 : decode cX4_product 71 = .ok (.areturn, 1) := dk_176 (dk_at dksX4_product_2 23 rfl rfl)
abbrev cX4_unit : ByteArray := prog_10_method_15_code
def yX4_unit : MethodName := ⟨RX4, "unit", "()LLastWordWood$Term;"⟩
def dkwX4_unit_3 : List UInt8 := [183, 0, 135, 176]
abbrev dktX4_unit_3 : List UInt8 := dkwX4_unit_3 ++ []
def dkwX4_unit_2 : List UInt8 := [183, 0, 103, 191, 42, 180, 0, 81, 17, 0, 180, 100, 60, 42, 182, 0, 106, 187, 0, 133, 89, 27]
abbrev dktX4_unit_2 : List UInt8 := dkwX4_unit_2 ++ dktX4_unit_3
def dkwX4_unit_1 : List UInt8 := [180, 0, 81, 17, 0, 180, 17, 0, 188, 184, 0, 30, 154, 0, 16, 187, 0, 101, 89, 4, 42, 180, 0, 34]
abbrev dktX4_unit_1 : List UInt8 := dkwX4_unit_1 ++ dktX4_unit_2
def dkwX4_unit_0 : List UInt8 := [42, 180, 0, 81, 5, 160, 0, 16, 187, 0, 124, 89, 42, 3, 182, 0, 126, 183, 0, 130, 176, 42]
abbrev dktX4_unit_0 : List UInt8 := dkwX4_unit_0 ++ dktX4_unit_1
theorem dksX4_unit_0 : cX4_unit.data.toList.drop 0 = dktX4_unit_0 := by decide +kernel
theorem dksX4_unit_1 : cX4_unit.data.toList.drop 22 = dktX4_unit_1 := dk_seg dksX4_unit_0 22 rfl rfl
theorem dksX4_unit_2 : cX4_unit.data.toList.drop 46 = dktX4_unit_2 := dk_seg dksX4_unit_1 24 rfl rfl
theorem dksX4_unit_3 : cX4_unit.data.toList.drop 68 = dktX4_unit_3 := dk_seg dksX4_unit_2 22 rfl rfl
theorem dX4_unit_0 : decode cX4_unit 0 = .ok (.aload_n 0, 1) := dk_42 (dk_at dksX4_unit_0 0 rfl rfl)
theorem dX4_unit_1 : decode cX4_unit 1 = .ok (.getfield 81, 3) := dk_180 0 81 (dk_at dksX4_unit_0 1 rfl rfl)
theorem dX4_unit_4 : decode cX4_unit 4 = .ok (.iconst 2, 1) := dk_5 (dk_at dksX4_unit_0 4 rfl rfl)
theorem dX4_unit_5 : decode cX4_unit 5 = .ok (.if_icmp .ne 16, 3) := dk_160 0 16 (dk_at dksX4_unit_0 5 rfl rfl)
theorem dX4_unit_8 : decode cX4_unit 8 = .ok (.new 124, 3) := dk_187 0 124 (dk_at dksX4_unit_0 8 rfl rfl)
theorem dX4_unit_11 : decode cX4_unit 11 = .ok (.dup, 1) := dk_89 (dk_at dksX4_unit_0 11 rfl rfl)
theorem dX4_unit_12 : decode cX4_unit 12 = .ok (.aload_n 0, 1) := dk_42 (dk_at dksX4_unit_0 12 rfl rfl)
theorem dX4_unit_13 : decode cX4_unit 13 = .ok (.iconst 0, 1) := dk_3 (dk_at dksX4_unit_0 13 rfl rfl)
theorem dX4_unit_14 : decode cX4_unit 14 = .ok (.invokevirtual 126, 3) := dk_182 0 126 (dk_at dksX4_unit_0 14 rfl rfl)
theorem dX4_unit_17 : decode cX4_unit 17 = .ok (.invokespecial 130, 3) := dk_183 0 130 (dk_at dksX4_unit_0 17 rfl rfl)
theorem dX4_unit_20 : decode cX4_unit 20 = .ok (.areturn, 1) := dk_176 (dk_at dksX4_unit_0 20 rfl rfl)
theorem dX4_unit_21 : decode cX4_unit 21 = .ok (.aload_n 0, 1) := dk_42 (dk_at dksX4_unit_0 21 rfl rfl)
theorem dX4_unit_22 : decode cX4_unit 22 = .ok (.getfield 81, 3) := dk_180 0 81 (dk_at dksX4_unit_1 0 rfl rfl)
theorem dX4_unit_25 : decode cX4_unit 25 = .ok (.sipush 180, 3) := dk_17 0 180 (dk_at dksX4_unit_1 3 rfl rfl)
theorem dX4_unit_28 : decode cX4_unit 28 = .ok (.sipush 188, 3) := dk_17 0 188 (dk_at dksX4_unit_1 6 rfl rfl)
theorem dX4_unit_31 : decode cX4_unit 31 = .ok (.invokestatic 30, 3) := dk_184 0 30 (dk_at dksX4_unit_1 9 rfl rfl)
theorem dX4_unit_34 : decode cX4_unit 34 = .ok (.ifCond .ne 16, 3) := dk_154 0 16 (dk_at dksX4_unit_1 12 rfl rfl)
theorem dX4_unit_37 : decode cX4_unit 37 = .ok (.new 101, 3) := dk_187 0 101 (dk_at dksX4_unit_1 15 rfl rfl)
theorem dX4_unit_40 : decode cX4_unit 40 = .ok (.dup, 1) := dk_89 (dk_at dksX4_unit_1 18 rfl rfl)
theorem dX4_unit_41 : decode cX4_unit 41 = .ok (.iconst 1, 1) := dk_4 (dk_at dksX4_unit_1 19 rfl rfl)
theorem dX4_unit_42 : decode cX4_unit 42 = .ok (.aload_n 0, 1) := dk_42 (dk_at dksX4_unit_1 20 rfl rfl)
theorem dX4_unit_43 : decode cX4_unit 43 = .ok (.getfield 34, 3) := dk_180 0 34 (dk_at dksX4_unit_1 21 rfl rfl)
theorem dX4_unit_46 : decode cX4_unit 46 = .ok (.invokespecial 103, 3) := dk_183 0 103 (dk_at dksX4_unit_2 0 rfl rfl)
theorem dX4_unit_49 : decode cX4_unit 49 = .ok (.athrow, 1) := dk_191 (dk_at dksX4_unit_2 3 rfl rfl)
theorem dX4_unit_50 : decode cX4_unit 50 = .ok (.aload_n 0, 1) := dk_42 (dk_at dksX4_unit_2 4 rfl rfl)
theorem dX4_unit_51 : decode cX4_unit 51 = .ok (.getfield 81, 3) := dk_180 0 81 (dk_at dksX4_unit_2 5 rfl rfl)
theorem dX4_unit_54 : decode cX4_unit 54 = .ok (.sipush 180, 3) := dk_17 0 180 (dk_at dksX4_unit_2 8 rfl rfl)
theorem dX4_unit_57 : decode cX4_unit 57 = .ok (.isub, 1) := dk_100 (dk_at dksX4_unit_2 11 rfl rfl)
theorem dX4_unit_58 : decode cX4_unit 58 = .ok (.istore_n 1, 1) := dk_60 (dk_at dksX4_unit_2 12 rfl rfl)
theorem dX4_unit_59 : decode cX4_unit 59 = .ok (.aload_n 0, 1) := dk_42 (dk_at dksX4_unit_2 13 rfl rfl)
theorem dX4_unit_60 : decode cX4_unit 60 = .ok (.invokevirtual 106, 3) := dk_182 0 106 (dk_at dksX4_unit_2 14 rfl rfl)
theorem dX4_unit_63 : decode cX4_unit 63 = .ok (.new 133, 3) := dk_187 0 133 (dk_at dksX4_unit_2 17 rfl rfl)
theorem dX4_unit_66 : decode cX4_unit 66 = .ok (.dup, 1) := dk_89 (dk_at dksX4_unit_2 20 rfl rfl)
theorem dX4_unit_67 : decode cX4_unit 67 = .ok (.iload_n 1, 1) := dk_27 (dk_at dksX4_unit_2 21 rfl rfl)
theorem dX4_unit_68 : decode cX4_unit 68 = .ok (.invokespecial 135, 3) := dk_183 0 135 (dk_at dksX4_unit_3 0 rfl rfl)
theorem dX4_unit_71 : decode cX4_unit 71 = .ok (.areturn, 1) := dk_176 (dk_at dksX4_unit_3 3 rfl rfl)
abbrev cX4_number : ByteArray := prog_10_method_11_code
def yX4_number : MethodName := ⟨RX4, "number", "(I)I"⟩
def dkwX4_number_2 : List UInt8 := [61, 42, 182, 0, 106, 28, 172]
abbrev dktX4_number_2 : List UInt8 := dkwX4_number_2 ++ []
def dkwX4_number_1 : List UInt8 := [180, 0, 94, 27, 162, 0, 16, 187, 0, 101, 89, 5, 42, 180, 0, 34, 183, 0, 103, 191, 42, 180, 0, 94]
abbrev dktX4_number_1 : List UInt8 := dkwX4_number_1 ++ dktX4_number_2
def dkwX4_number_0 : List UInt8 := [42, 180, 0, 81, 5, 159, 0, 16, 187, 0, 101, 89, 4, 42, 180, 0, 34, 183, 0, 103, 191, 42]
abbrev dktX4_number_0 : List UInt8 := dkwX4_number_0 ++ dktX4_number_1
theorem dksX4_number_0 : cX4_number.data.toList.drop 0 = dktX4_number_0 := by decide +kernel
theorem dksX4_number_1 : cX4_number.data.toList.drop 22 = dktX4_number_1 := dk_seg dksX4_number_0 22 rfl rfl
theorem dksX4_number_2 : cX4_number.data.toList.drop 46 = dktX4_number_2 := dk_seg dksX4_number_1 24 rfl rfl
theorem dX4_number_0 : decode cX4_number 0 = .ok (.aload_n 0, 1) := dk_42 (dk_at dksX4_number_0 0 rfl rfl)
theorem dX4_number_1 : decode cX4_number 1 = .ok (.getfield 81, 3) := dk_180 0 81 (dk_at dksX4_number_0 1 rfl rfl)
theorem dX4_number_4 : decode cX4_number 4 = .ok (.iconst 2, 1) := dk_5 (dk_at dksX4_number_0 4 rfl rfl)
theorem dX4_number_5 : decode cX4_number 5 = .ok (.if_icmp .eq 16, 3) := dk_159 0 16 (dk_at dksX4_number_0 5 rfl rfl)
theorem dX4_number_8 : decode cX4_number 8 = .ok (.new 101, 3) := dk_187 0 101 (dk_at dksX4_number_0 8 rfl rfl)
theorem dX4_number_11 : decode cX4_number 11 = .ok (.dup, 1) := dk_89 (dk_at dksX4_number_0 11 rfl rfl)
theorem dX4_number_12 : decode cX4_number 12 = .ok (.iconst 1, 1) := dk_4 (dk_at dksX4_number_0 12 rfl rfl)
theorem dX4_number_13 : decode cX4_number 13 = .ok (.aload_n 0, 1) := dk_42 (dk_at dksX4_number_0 13 rfl rfl)
theorem dX4_number_14 : decode cX4_number 14 = .ok (.getfield 34, 3) := dk_180 0 34 (dk_at dksX4_number_0 14 rfl rfl)
theorem dX4_number_17 : decode cX4_number 17 = .ok (.invokespecial 103, 3) := dk_183 0 103 (dk_at dksX4_number_0 17 rfl rfl)
theorem dX4_number_20 : decode cX4_number 20 = .ok (.athrow, 1) := dk_191 (dk_at dksX4_number_0 20 rfl rfl)
theorem dX4_number_21 : decode cX4_number 21 = .ok (.aload_n 0, 1) := dk_42 (dk_at dksX4_number_0 21 rfl rfl)
theorem dX4_number_22 : decode cX4_number 22 = .ok (.getfield 94, 3) := dk_180 0 94 (dk_at dksX4_number_1 0 rfl rfl)
theorem dX4_number_25 : decode cX4_number 25 = .ok (.iload_n 1, 1) := dk_27 (dk_at dksX4_number_1 3 rfl rfl)
theorem dX4_number_26 : decode cX4_number 26 = .ok (.if_icmp .ge 16, 3) := dk_162 0 16 (dk_at dksX4_number_1 4 rfl rfl)
theorem dX4_number_29 : decode cX4_number 29 = .ok (.new 101, 3) := dk_187 0 101 (dk_at dksX4_number_1 7 rfl rfl)
theorem dX4_number_32 : decode cX4_number 32 = .ok (.dup, 1) := dk_89 (dk_at dksX4_number_1 10 rfl rfl)
theorem dX4_number_33 : decode cX4_number 33 = .ok (.iconst 2, 1) := dk_5 (dk_at dksX4_number_1 11 rfl rfl)
theorem dX4_number_34 : decode cX4_number 34 = .ok (.aload_n 0, 1) := dk_42 (dk_at dksX4_number_1 12 rfl rfl)
theorem dX4_number_35 : decode cX4_number 35 = .ok (.getfield 34, 3) := dk_180 0 34 (dk_at dksX4_number_1 13 rfl rfl)
theorem dX4_number_38 : decode cX4_number 38 = .ok (.invokespecial 103, 3) := dk_183 0 103 (dk_at dksX4_number_1 16 rfl rfl)
theorem dX4_number_41 : decode cX4_number 41 = .ok (.athrow, 1) := dk_191 (dk_at dksX4_number_1 19 rfl rfl)
theorem dX4_number_42 : decode cX4_number 42 = .ok (.aload_n 0, 1) := dk_42 (dk_at dksX4_number_1 20 rfl rfl)
theorem dX4_number_43 : decode cX4_number 43 = .ok (.getfield 94, 3) := dk_180 0 94 (dk_at dksX4_number_1 21 rfl rfl)
theorem dX4_number_46 : decode cX4_number 46 = .ok (.istore_n 2, 1) := dk_61 (dk_at dksX4_number_2 0 rfl rfl)
theorem dX4_number_47 : decode cX4_number 47 = .ok (.aload_n 0, 1) := dk_42 (dk_at dksX4_number_2 1 rfl rfl)
theorem dX4_number_48 : decode cX4_number 48 = .ok (.invokevirtual 106, 3) := dk_182 0 106 (dk_at dksX4_number_2 2 rfl rfl)
theorem dX4_number_51 : decode cX4_number 51 = .ok (.iload_n 2, 1) := dk_28 (dk_at dksX4_number_2 5 rfl rfl)
theorem dX4_number_52 : decode cX4_number 52 = .ok (.ireturn, 1) := dk_172 (dk_at dksX4_number_2 6 rfl rfl)
abbrev cX4_any : ByteArray := prog_10_method_16_code
def yX4_any : MethodName := ⟨RX4, "any", "()LLastWordWood$Term;"⟩
def dkwX4_any_1 : List UInt8 := [182, 0, 136, 183, 0, 118, 76, 167, 255, 230, 43, 176]
abbrev dktX4_any_1 : List UInt8 := dkwX4_any_1 ++ []
def dkwX4_any_0 : List UInt8 := [42, 182, 0, 136, 76, 42, 180, 0, 81, 7, 160, 0, 24, 42, 182, 0, 106, 187, 0, 116, 89, 43, 7, 42]
abbrev dktX4_any_0 : List UInt8 := dkwX4_any_0 ++ dktX4_any_1
theorem dksX4_any_0 : cX4_any.data.toList.drop 0 = dktX4_any_0 := by decide +kernel
theorem dksX4_any_1 : cX4_any.data.toList.drop 24 = dktX4_any_1 := dk_seg dksX4_any_0 24 rfl rfl
theorem dX4_any_0 : decode cX4_any 0 = .ok (.aload_n 0, 1) := dk_42 (dk_at dksX4_any_0 0 rfl rfl)
theorem dX4_any_1 : decode cX4_any 1 = .ok (.invokevirtual 136, 3) := dk_182 0 136 (dk_at dksX4_any_0 1 rfl rfl)
theorem dX4_any_4 : decode cX4_any 4 = .ok (.astore_n 1, 1) := dk_76 (dk_at dksX4_any_0 4 rfl rfl)
theorem dX4_any_5 : decode cX4_any 5 = .ok (.aload_n 0, 1) := dk_42 (dk_at dksX4_any_0 5 rfl rfl)
theorem dX4_any_6 : decode cX4_any 6 = .ok (.getfield 81, 3) := dk_180 0 81 (dk_at dksX4_any_0 6 rfl rfl)
theorem dX4_any_9 : decode cX4_any 9 = .ok (.iconst 4, 1) := dk_7 (dk_at dksX4_any_0 9 rfl rfl)
theorem dX4_any_10 : decode cX4_any 10 = .ok (.if_icmp .ne 24, 3) := dk_160 0 24 (dk_at dksX4_any_0 10 rfl rfl)
theorem dX4_any_13 : decode cX4_any 13 = .ok (.aload_n 0, 1) := dk_42 (dk_at dksX4_any_0 13 rfl rfl)
theorem dX4_any_14 : decode cX4_any 14 = .ok (.invokevirtual 106, 3) := dk_182 0 106 (dk_at dksX4_any_0 14 rfl rfl)
theorem dX4_any_17 : decode cX4_any 17 = .ok (.new 116, 3) := dk_187 0 116 (dk_at dksX4_any_0 17 rfl rfl)
theorem dX4_any_20 : decode cX4_any 20 = .ok (.dup, 1) := dk_89 (dk_at dksX4_any_0 20 rfl rfl)
theorem dX4_any_21 : decode cX4_any 21 = .ok (.aload_n 1, 1) := dk_43 (dk_at dksX4_any_0 21 rfl rfl)
theorem dX4_any_22 : decode cX4_any 22 = .ok (.iconst 4, 1) := dk_7 (dk_at dksX4_any_0 22 rfl rfl)
theorem dX4_any_23 : decode cX4_any 23 = .ok (.aload_n 0, 1) := dk_42 (dk_at dksX4_any_0 23 rfl rfl)
theorem dX4_any_24 : decode cX4_any 24 = .ok (.invokevirtual 136, 3) := dk_182 0 136 (dk_at dksX4_any_1 0 rfl rfl)
theorem dX4_any_27 : decode cX4_any 27 = .ok (.invokespecial 118, 3) := dk_183 0 118 (dk_at dksX4_any_1 3 rfl rfl)
theorem dX4_any_30 : decode cX4_any 30 = .ok (.astore_n 1, 1) := dk_76 (dk_at dksX4_any_1 6 rfl rfl)
theorem dX4_any_31 : decode cX4_any 31 = .ok (.goto (-26), 3) := dk_167 255 230 (dk_at dksX4_any_1 7 rfl rfl)
theorem dX4_any_34 : decode cX4_any 34 = .ok (.aload_n 1, 1) := dk_43 (dk_at dksX4_any_1 10 rfl rfl)
theorem dX4_any_35 : decode cX4_any 35 = .ok (.areturn, 1) := dk_176 (dk_at dksX4_any_1 11 rfl rfl)
abbrev cX4_all : ByteArray := prog_10_method_17_code
def yX4_all : MethodName := ⟨RX4, "all", "()LLastWordWood$Term;"⟩
def dkwX4_all_1 : List UInt8 := [182, 0, 139, 183, 0, 118, 76, 167, 255, 230, 43, 176]
abbrev dktX4_all_1 : List UInt8 := dkwX4_all_1 ++ []
def dkwX4_all_0 : List UInt8 := [42, 182, 0, 139, 76, 42, 180, 0, 81, 8, 160, 0, 24, 42, 182, 0, 106, 187, 0, 116, 89, 43, 8, 42]
abbrev dktX4_all_0 : List UInt8 := dkwX4_all_0 ++ dktX4_all_1
theorem dksX4_all_0 : cX4_all.data.toList.drop 0 = dktX4_all_0 := by decide +kernel
theorem dksX4_all_1 : cX4_all.data.toList.drop 24 = dktX4_all_1 := dk_seg dksX4_all_0 24 rfl rfl
theorem dX4_all_0 : decode cX4_all 0 = .ok (.aload_n 0, 1) := dk_42 (dk_at dksX4_all_0 0 rfl rfl)
theorem dX4_all_1 : decode cX4_all 1 = .ok (.invokevirtual 139, 3) := dk_182 0 139 (dk_at dksX4_all_0 1 rfl rfl)
theorem dX4_all_4 : decode cX4_all 4 = .ok (.astore_n 1, 1) := dk_76 (dk_at dksX4_all_0 4 rfl rfl)
theorem dX4_all_5 : decode cX4_all 5 = .ok (.aload_n 0, 1) := dk_42 (dk_at dksX4_all_0 5 rfl rfl)
theorem dX4_all_6 : decode cX4_all 6 = .ok (.getfield 81, 3) := dk_180 0 81 (dk_at dksX4_all_0 6 rfl rfl)
theorem dX4_all_9 : decode cX4_all 9 = .ok (.iconst 5, 1) := dk_8 (dk_at dksX4_all_0 9 rfl rfl)
theorem dX4_all_10 : decode cX4_all 10 = .ok (.if_icmp .ne 24, 3) := dk_160 0 24 (dk_at dksX4_all_0 10 rfl rfl)
theorem dX4_all_13 : decode cX4_all 13 = .ok (.aload_n 0, 1) := dk_42 (dk_at dksX4_all_0 13 rfl rfl)
theorem dX4_all_14 : decode cX4_all 14 = .ok (.invokevirtual 106, 3) := dk_182 0 106 (dk_at dksX4_all_0 14 rfl rfl)
theorem dX4_all_17 : decode cX4_all 17 = .ok (.new 116, 3) := dk_187 0 116 (dk_at dksX4_all_0 17 rfl rfl)
theorem dX4_all_20 : decode cX4_all 20 = .ok (.dup, 1) := dk_89 (dk_at dksX4_all_0 20 rfl rfl)
theorem dX4_all_21 : decode cX4_all 21 = .ok (.aload_n 1, 1) := dk_43 (dk_at dksX4_all_0 21 rfl rfl)
theorem dX4_all_22 : decode cX4_all 22 = .ok (.iconst 5, 1) := dk_8 (dk_at dksX4_all_0 22 rfl rfl)
theorem dX4_all_23 : decode cX4_all 23 = .ok (.aload_n 0, 1) := dk_42 (dk_at dksX4_all_0 23 rfl rfl)
theorem dX4_all_24 : decode cX4_all 24 = .ok (.invokevirtual 139, 3) := dk_182 0 139 (dk_at dksX4_all_1 0 rfl rfl)
theorem dX4_all_27 : decode cX4_all 27 = .ok (.invokespecial 118, 3) := dk_183 0 118 (dk_at dksX4_all_1 3 rfl rfl)
theorem dX4_all_30 : decode cX4_all 30 = .ok (.astore_n 1, 1) := dk_76 (dk_at dksX4_all_1 6 rfl rfl)
theorem dX4_all_31 : decode cX4_all 31 = .ok (.goto (-26), 3) := dk_167 255 230 (dk_at dksX4_all_1 7 rfl rfl)
theorem dX4_all_34 : decode cX4_all 34 = .ok (.aload_n 1, 1) := dk_43 (dk_at dksX4_all_1 10 rfl rfl)
theorem dX4_all_35 : decode cX4_all 35 = .ok (.areturn, 1) := dk_176 (dk_at dksX4_all_1 11 rfl rfl)
abbrev cX4_one : ByteArray := prog_10_method_18_code
def yX4_one : MethodName := ⟨RX4, "one", "()LLastWordWood$Term;"⟩
def dkwX4_one_6 : List UInt8 := [176]
abbrev dktX4_one_6 : List UInt8 := dkwX4_one_6 ++ []
def dkwX4_one_5 : List UInt8 := [180, 0, 34, 183, 0, 103, 191, 42, 182, 0, 106, 187, 0, 116, 89, 43, 28, 42, 182, 0, 156, 183, 0, 118]
abbrev dktX4_one_5 : List UInt8 := dkwX4_one_5 ++ dktX4_one_6
def dkwX4_one_4 : List UInt8 := [16, 60, 159, 0, 28, 28, 16, 61, 159, 0, 22, 28, 16, 62, 159, 0, 16, 187, 0, 101, 89, 4, 42]
abbrev dktX4_one_4 : List UInt8 := dkwX4_one_4 ++ dktX4_one_5
def dkwX4_one_3 : List UInt8 := [42, 89, 180, 0, 109, 4, 100, 181, 0, 109, 44, 176, 42, 182, 0, 156, 76, 42, 180, 0, 81, 61, 28]
abbrev dktX4_one_3 : List UInt8 := dkwX4_one_3 ++ dktX4_one_4
def dkwX4_one_2 : List UInt8 := [182, 0, 139, 183, 0, 147, 167, 0, 7, 42, 182, 0, 150, 77, 27, 154, 0, 9, 42, 16, 41, 182, 0, 153]
abbrev dktX4_one_2 : List UInt8 := dkwX4_one_2 ++ dktX4_one_3
def dkwX4_one_1 : List UInt8 := [160, 0, 7, 4, 167, 0, 4, 3, 60, 42, 182, 0, 142, 27, 153, 0, 17, 187, 0, 145, 89, 42]
abbrev dktX4_one_1 : List UInt8 := dkwX4_one_1 ++ dktX4_one_2
def dkwX4_one_0 : List UInt8 := [42, 180, 0, 81, 16, 6, 159, 0, 12, 42, 180, 0, 81, 16, 40, 160, 0, 67, 42, 180, 0, 81, 16, 6]
abbrev dktX4_one_0 : List UInt8 := dkwX4_one_0 ++ dktX4_one_1
theorem dksX4_one_0 : cX4_one.data.toList.drop 0 = dktX4_one_0 := by decide +kernel
theorem dksX4_one_1 : cX4_one.data.toList.drop 24 = dktX4_one_1 := dk_seg dksX4_one_0 24 rfl rfl
theorem dksX4_one_2 : cX4_one.data.toList.drop 46 = dktX4_one_2 := dk_seg dksX4_one_1 22 rfl rfl
theorem dksX4_one_3 : cX4_one.data.toList.drop 70 = dktX4_one_3 := dk_seg dksX4_one_2 24 rfl rfl
theorem dksX4_one_4 : cX4_one.data.toList.drop 93 = dktX4_one_4 := dk_seg dksX4_one_3 23 rfl rfl
theorem dksX4_one_5 : cX4_one.data.toList.drop 116 = dktX4_one_5 := dk_seg dksX4_one_4 23 rfl rfl
theorem dksX4_one_6 : cX4_one.data.toList.drop 140 = dktX4_one_6 := dk_seg dksX4_one_5 24 rfl rfl
theorem dX4_one_0 : decode cX4_one 0 = .ok (.aload_n 0, 1) := dk_42 (dk_at dksX4_one_0 0 rfl rfl)
theorem dX4_one_1 : decode cX4_one 1 = .ok (.getfield 81, 3) := dk_180 0 81 (dk_at dksX4_one_0 1 rfl rfl)
theorem dX4_one_4 : decode cX4_one 4 = .ok (.bipush 6, 2) := dk_16 6 (dk_at dksX4_one_0 4 rfl rfl)
theorem dX4_one_6 : decode cX4_one 6 = .ok (.if_icmp .eq 12, 3) := dk_159 0 12 (dk_at dksX4_one_0 6 rfl rfl)
theorem dX4_one_9 : decode cX4_one 9 = .ok (.aload_n 0, 1) := dk_42 (dk_at dksX4_one_0 9 rfl rfl)
theorem dX4_one_10 : decode cX4_one 10 = .ok (.getfield 81, 3) := dk_180 0 81 (dk_at dksX4_one_0 10 rfl rfl)
theorem dX4_one_13 : decode cX4_one 13 = .ok (.bipush 40, 2) := dk_16 40 (dk_at dksX4_one_0 13 rfl rfl)
theorem dX4_one_15 : decode cX4_one 15 = .ok (.if_icmp .ne 67, 3) := dk_160 0 67 (dk_at dksX4_one_0 15 rfl rfl)
theorem dX4_one_18 : decode cX4_one 18 = .ok (.aload_n 0, 1) := dk_42 (dk_at dksX4_one_0 18 rfl rfl)
theorem dX4_one_19 : decode cX4_one 19 = .ok (.getfield 81, 3) := dk_180 0 81 (dk_at dksX4_one_0 19 rfl rfl)
theorem dX4_one_22 : decode cX4_one 22 = .ok (.bipush 6, 2) := dk_16 6 (dk_at dksX4_one_0 22 rfl rfl)
theorem dX4_one_24 : decode cX4_one 24 = .ok (.if_icmp .ne 7, 3) := dk_160 0 7 (dk_at dksX4_one_1 0 rfl rfl)
theorem dX4_one_27 : decode cX4_one 27 = .ok (.iconst 1, 1) := dk_4 (dk_at dksX4_one_1 3 rfl rfl)
theorem dX4_one_28 : decode cX4_one 28 = .ok (.goto 4, 3) := dk_167 0 4 (dk_at dksX4_one_1 4 rfl rfl)
theorem dX4_one_31 : decode cX4_one 31 = .ok (.iconst 0, 1) := dk_3 (dk_at dksX4_one_1 7 rfl rfl)
theorem dX4_one_32 : decode cX4_one 32 = .ok (.istore_n 1, 1) := dk_60 (dk_at dksX4_one_1 8 rfl rfl)
theorem dX4_one_33 : decode cX4_one 33 = .ok (.aload_n 0, 1) := dk_42 (dk_at dksX4_one_1 9 rfl rfl)
theorem dX4_one_34 : decode cX4_one 34 = .ok (.invokevirtual 142, 3) := dk_182 0 142 (dk_at dksX4_one_1 10 rfl rfl)
theorem dX4_one_37 : decode cX4_one 37 = .ok (.iload_n 1, 1) := dk_27 (dk_at dksX4_one_1 13 rfl rfl)
theorem dX4_one_38 : decode cX4_one 38 = .ok (.ifCond .eq 17, 3) := dk_153 0 17 (dk_at dksX4_one_1 14 rfl rfl)
theorem dX4_one_41 : decode cX4_one 41 = .ok (.new 145, 3) := dk_187 0 145 (dk_at dksX4_one_1 17 rfl rfl)
theorem dX4_one_44 : decode cX4_one 44 = .ok (.dup, 1) := dk_89 (dk_at dksX4_one_1 20 rfl rfl)
theorem dX4_one_45 : decode cX4_one 45 = .ok (.aload_n 0, 1) := dk_42 (dk_at dksX4_one_1 21 rfl rfl)
theorem dX4_one_46 : decode cX4_one 46 = .ok (.invokevirtual 139, 3) := dk_182 0 139 (dk_at dksX4_one_2 0 rfl rfl)
theorem dX4_one_49 : decode cX4_one 49 = .ok (.invokespecial 147, 3) := dk_183 0 147 (dk_at dksX4_one_2 3 rfl rfl)
theorem dX4_one_52 : decode cX4_one 52 = .ok (.goto 7, 3) := dk_167 0 7 (dk_at dksX4_one_2 6 rfl rfl)
theorem dX4_one_55 : decode cX4_one 55 = .ok (.aload_n 0, 1) := dk_42 (dk_at dksX4_one_2 9 rfl rfl)
theorem dX4_one_56 : decode cX4_one 56 = .ok (.invokevirtual 150, 3) := dk_182 0 150 (dk_at dksX4_one_2 10 rfl rfl)
theorem dX4_one_59 : decode cX4_one 59 = .ok (.astore_n 2, 1) := dk_77 (dk_at dksX4_one_2 13 rfl rfl)
theorem dX4_one_60 : decode cX4_one 60 = .ok (.iload_n 1, 1) := dk_27 (dk_at dksX4_one_2 14 rfl rfl)
theorem dX4_one_61 : decode cX4_one 61 = .ok (.ifCond .ne 9, 3) := dk_154 0 9 (dk_at dksX4_one_2 15 rfl rfl)
theorem dX4_one_64 : decode cX4_one 64 = .ok (.aload_n 0, 1) := dk_42 (dk_at dksX4_one_2 18 rfl rfl)
theorem dX4_one_65 : decode cX4_one 65 = .ok (.bipush 41, 2) := dk_16 41 (dk_at dksX4_one_2 19 rfl rfl)
theorem dX4_one_67 : decode cX4_one 67 = .ok (.invokevirtual 153, 3) := dk_182 0 153 (dk_at dksX4_one_2 21 rfl rfl)
theorem dX4_one_70 : decode cX4_one 70 = .ok (.aload_n 0, 1) := dk_42 (dk_at dksX4_one_3 0 rfl rfl)
theorem dX4_one_71 : decode cX4_one 71 = .ok (.dup, 1) := dk_89 (dk_at dksX4_one_3 1 rfl rfl)
theorem dX4_one_72 : decode cX4_one 72 = .ok (.getfield 109, 3) := dk_180 0 109 (dk_at dksX4_one_3 2 rfl rfl)
theorem dX4_one_75 : decode cX4_one 75 = .ok (.iconst 1, 1) := dk_4 (dk_at dksX4_one_3 5 rfl rfl)
theorem dX4_one_76 : decode cX4_one 76 = .ok (.isub, 1) := dk_100 (dk_at dksX4_one_3 6 rfl rfl)
theorem dX4_one_77 : decode cX4_one 77 = .ok (.putfield 109, 3) := dk_181 0 109 (dk_at dksX4_one_3 7 rfl rfl)
theorem dX4_one_80 : decode cX4_one 80 = .ok (.aload_n 2, 1) := dk_44 (dk_at dksX4_one_3 10 rfl rfl)
theorem dX4_one_81 : decode cX4_one 81 = .ok (.areturn, 1) := dk_176 (dk_at dksX4_one_3 11 rfl rfl)
theorem dX4_one_82 : decode cX4_one 82 = .ok (.aload_n 0, 1) := dk_42 (dk_at dksX4_one_3 12 rfl rfl)
theorem dX4_one_83 : decode cX4_one 83 = .ok (.invokevirtual 156, 3) := dk_182 0 156 (dk_at dksX4_one_3 13 rfl rfl)
theorem dX4_one_86 : decode cX4_one 86 = .ok (.astore_n 1, 1) := dk_76 (dk_at dksX4_one_3 16 rfl rfl)
theorem dX4_one_87 : decode cX4_one 87 = .ok (.aload_n 0, 1) := dk_42 (dk_at dksX4_one_3 17 rfl rfl)
theorem dX4_one_88 : decode cX4_one 88 = .ok (.getfield 81, 3) := dk_180 0 81 (dk_at dksX4_one_3 18 rfl rfl)
theorem dX4_one_91 : decode cX4_one 91 = .ok (.istore_n 2, 1) := dk_61 (dk_at dksX4_one_3 21 rfl rfl)
theorem dX4_one_92 : decode cX4_one 92 = .ok (.iload_n 2, 1) := dk_28 (dk_at dksX4_one_3 22 rfl rfl)
theorem dX4_one_93 : decode cX4_one 93 = .ok (.bipush 60, 2) := dk_16 60 (dk_at dksX4_one_4 0 rfl rfl)
theorem dX4_one_95 : decode cX4_one 95 = .ok (.if_icmp .eq 28, 3) := dk_159 0 28 (dk_at dksX4_one_4 2 rfl rfl)
theorem dX4_one_98 : decode cX4_one 98 = .ok (.iload_n 2, 1) := dk_28 (dk_at dksX4_one_4 5 rfl rfl)
theorem dX4_one_99 : decode cX4_one 99 = .ok (.bipush 61, 2) := dk_16 61 (dk_at dksX4_one_4 6 rfl rfl)
theorem dX4_one_101 : decode cX4_one 101 = .ok (.if_icmp .eq 22, 3) := dk_159 0 22 (dk_at dksX4_one_4 8 rfl rfl)
theorem dX4_one_104 : decode cX4_one 104 = .ok (.iload_n 2, 1) := dk_28 (dk_at dksX4_one_4 11 rfl rfl)
theorem dX4_one_105 : decode cX4_one 105 = .ok (.bipush 62, 2) := dk_16 62 (dk_at dksX4_one_4 12 rfl rfl)
theorem dX4_one_107 : decode cX4_one 107 = .ok (.if_icmp .eq 16, 3) := dk_159 0 16 (dk_at dksX4_one_4 14 rfl rfl)
theorem dX4_one_110 : decode cX4_one 110 = .ok (.new 101, 3) := dk_187 0 101 (dk_at dksX4_one_4 17 rfl rfl)
theorem dX4_one_113 : decode cX4_one 113 = .ok (.dup, 1) := dk_89 (dk_at dksX4_one_4 20 rfl rfl)
theorem dX4_one_114 : decode cX4_one 114 = .ok (.iconst 1, 1) := dk_4 (dk_at dksX4_one_4 21 rfl rfl)
theorem dX4_one_115 : decode cX4_one 115 = .ok (.aload_n 0, 1) := dk_42 (dk_at dksX4_one_4 22 rfl rfl)
theorem dX4_one_116 : decode cX4_one 116 = .ok (.getfield 34, 3) := dk_180 0 34 (dk_at dksX4_one_5 0 rfl rfl)
theorem dX4_one_119 : decode cX4_one 119 = .ok (.invokespecial 103, 3) := dk_183 0 103 (dk_at dksX4_one_5 3 rfl rfl)
theorem dX4_one_122 : decode cX4_one 122 = .ok (.athrow, 1) := dk_191 (dk_at dksX4_one_5 6 rfl rfl)
theorem dX4_one_123 : decode cX4_one 123 = .ok (.aload_n 0, 1) := dk_42 (dk_at dksX4_one_5 7 rfl rfl)
theorem dX4_one_124 : decode cX4_one 124 = .ok (.invokevirtual 106, 3) := dk_182 0 106 (dk_at dksX4_one_5 8 rfl rfl)
theorem dX4_one_127 : decode cX4_one 127 = .ok (.new 116, 3) := dk_187 0 116 (dk_at dksX4_one_5 11 rfl rfl)
theorem dX4_one_130 : decode cX4_one 130 = .ok (.dup, 1) := dk_89 (dk_at dksX4_one_5 14 rfl rfl)
theorem dX4_one_131 : decode cX4_one 131 = .ok (.aload_n 1, 1) := dk_43 (dk_at dksX4_one_5 15 rfl rfl)
theorem dX4_one_132 : decode cX4_one 132 = .ok (.iload_n 2, 1) := dk_28 (dk_at dksX4_one_5 16 rfl rfl)
theorem dX4_one_133 : decode cX4_one 133 = .ok (.aload_n 0, 1) := dk_42 (dk_at dksX4_one_5 17 rfl rfl)
theorem dX4_one_134 : decode cX4_one 134 = .ok (.invokevirtual 156, 3) := dk_182 0 156 (dk_at dksX4_one_5 18 rfl rfl)
theorem dX4_one_137 : decode cX4_one 137 = .ok (.invokespecial 118, 3) := dk_183 0 118 (dk_at dksX4_one_5 21 rfl rfl)
theorem dX4_one_140 : decode cX4_one 140 = .ok (.areturn, 1) := dk_176 (dk_at dksX4_one_6 0 rfl rfl)
abbrev cX4_opens : ByteArray := prog_10_method_12_code
def yX4_opens : MethodName := ⟨RX4, "opens", "()V"⟩
def dkwX4_opens_1 : List UInt8 := [180, 0, 109, 4, 96, 181, 0, 109, 42, 182, 0, 106, 177]
abbrev dktX4_opens_1 : List UInt8 := dkwX4_opens_1 ++ []
def dkwX4_opens_0 : List UInt8 := [42, 180, 0, 109, 16, 8, 160, 0, 16, 187, 0, 101, 89, 6, 42, 180, 0, 34, 183, 0, 103, 191, 42, 89]
abbrev dktX4_opens_0 : List UInt8 := dkwX4_opens_0 ++ dktX4_opens_1
theorem dksX4_opens_0 : cX4_opens.data.toList.drop 0 = dktX4_opens_0 := by decide +kernel
theorem dksX4_opens_1 : cX4_opens.data.toList.drop 24 = dktX4_opens_1 := dk_seg dksX4_opens_0 24 rfl rfl
theorem dX4_opens_0 : decode cX4_opens 0 = .ok (.aload_n 0, 1) := dk_42 (dk_at dksX4_opens_0 0 rfl rfl)
theorem dX4_opens_1 : decode cX4_opens 1 = .ok (.getfield 109, 3) := dk_180 0 109 (dk_at dksX4_opens_0 1 rfl rfl)
theorem dX4_opens_4 : decode cX4_opens 4 = .ok (.bipush 8, 2) := dk_16 8 (dk_at dksX4_opens_0 4 rfl rfl)
theorem dX4_opens_6 : decode cX4_opens 6 = .ok (.if_icmp .ne 16, 3) := dk_160 0 16 (dk_at dksX4_opens_0 6 rfl rfl)
theorem dX4_opens_9 : decode cX4_opens 9 = .ok (.new 101, 3) := dk_187 0 101 (dk_at dksX4_opens_0 9 rfl rfl)
theorem dX4_opens_12 : decode cX4_opens 12 = .ok (.dup, 1) := dk_89 (dk_at dksX4_opens_0 12 rfl rfl)
theorem dX4_opens_13 : decode cX4_opens 13 = .ok (.iconst 3, 1) := dk_6 (dk_at dksX4_opens_0 13 rfl rfl)
theorem dX4_opens_14 : decode cX4_opens 14 = .ok (.aload_n 0, 1) := dk_42 (dk_at dksX4_opens_0 14 rfl rfl)
theorem dX4_opens_15 : decode cX4_opens 15 = .ok (.getfield 34, 3) := dk_180 0 34 (dk_at dksX4_opens_0 15 rfl rfl)
theorem dX4_opens_18 : decode cX4_opens 18 = .ok (.invokespecial 103, 3) := dk_183 0 103 (dk_at dksX4_opens_0 18 rfl rfl)
theorem dX4_opens_21 : decode cX4_opens 21 = .ok (.athrow, 1) := dk_191 (dk_at dksX4_opens_0 21 rfl rfl)
theorem dX4_opens_22 : decode cX4_opens 22 = .ok (.aload_n 0, 1) := dk_42 (dk_at dksX4_opens_0 22 rfl rfl)
theorem dX4_opens_23 : decode cX4_opens 23 = .ok (.dup, 1) := dk_89 (dk_at dksX4_opens_0 23 rfl rfl)
theorem dX4_opens_24 : decode cX4_opens 24 = .ok (.getfield 109, 3) := dk_180 0 109 (dk_at dksX4_opens_1 0 rfl rfl)
theorem dX4_opens_27 : decode cX4_opens 27 = .ok (.iconst 1, 1) := dk_4 (dk_at dksX4_opens_1 3 rfl rfl)
theorem dX4_opens_28 : decode cX4_opens 28 = .ok (.iadd, 1) := dk_96 (dk_at dksX4_opens_1 4 rfl rfl)
theorem dX4_opens_29 : decode cX4_opens 29 = .ok (.putfield 109, 3) := dk_181 0 109 (dk_at dksX4_opens_1 5 rfl rfl)
theorem dX4_opens_32 : decode cX4_opens 32 = .ok (.aload_n 0, 1) := dk_42 (dk_at dksX4_opens_1 8 rfl rfl)
theorem dX4_opens_33 : decode cX4_opens 33 = .ok (.invokevirtual 106, 3) := dk_182 0 106 (dk_at dksX4_opens_1 9 rfl rfl)
theorem dX4_opens_36 : decode cX4_opens 36 = .ok (.return_, 1) := dk_177 (dk_at dksX4_opens_1 12 rfl rfl)
abbrev cX4_must : ByteArray := prog_10_method_10_code
def yX4_must : MethodName := ⟨RX4, "must", "(I)V"⟩
def dkwX4_must_1 : List UInt8 := [182, 0, 106, 177]
abbrev dktX4_must_1 : List UInt8 := dkwX4_must_1 ++ []
def dkwX4_must_0 : List UInt8 := [42, 180, 0, 81, 27, 159, 0, 16, 187, 0, 101, 89, 4, 42, 180, 0, 34, 183, 0, 103, 191, 42]
abbrev dktX4_must_0 : List UInt8 := dkwX4_must_0 ++ dktX4_must_1
theorem dksX4_must_0 : cX4_must.data.toList.drop 0 = dktX4_must_0 := by decide +kernel
theorem dksX4_must_1 : cX4_must.data.toList.drop 22 = dktX4_must_1 := dk_seg dksX4_must_0 22 rfl rfl
theorem dX4_must_0 : decode cX4_must 0 = .ok (.aload_n 0, 1) := dk_42 (dk_at dksX4_must_0 0 rfl rfl)
theorem dX4_must_1 : decode cX4_must 1 = .ok (.getfield 81, 3) := dk_180 0 81 (dk_at dksX4_must_0 1 rfl rfl)
theorem dX4_must_4 : decode cX4_must 4 = .ok (.iload_n 1, 1) := dk_27 (dk_at dksX4_must_0 4 rfl rfl)
theorem dX4_must_5 : decode cX4_must 5 = .ok (.if_icmp .eq 16, 3) := dk_159 0 16 (dk_at dksX4_must_0 5 rfl rfl)
theorem dX4_must_8 : decode cX4_must 8 = .ok (.new 101, 3) := dk_187 0 101 (dk_at dksX4_must_0 8 rfl rfl)
theorem dX4_must_11 : decode cX4_must 11 = .ok (.dup, 1) := dk_89 (dk_at dksX4_must_0 11 rfl rfl)
theorem dX4_must_12 : decode cX4_must 12 = .ok (.iconst 1, 1) := dk_4 (dk_at dksX4_must_0 12 rfl rfl)
theorem dX4_must_13 : decode cX4_must 13 = .ok (.aload_n 0, 1) := dk_42 (dk_at dksX4_must_0 13 rfl rfl)
theorem dX4_must_14 : decode cX4_must 14 = .ok (.getfield 34, 3) := dk_180 0 34 (dk_at dksX4_must_0 14 rfl rfl)
theorem dX4_must_17 : decode cX4_must 17 = .ok (.invokespecial 103, 3) := dk_183 0 103 (dk_at dksX4_must_0 17 rfl rfl)
theorem dX4_must_20 : decode cX4_must 20 = .ok (.athrow, 1) := dk_191 (dk_at dksX4_must_0 20 rfl rfl)
theorem dX4_must_21 : decode cX4_must 21 = .ok (.aload_n 0, 1) := dk_42 (dk_at dksX4_must_0 21 rfl rfl)
theorem dX4_must_22 : decode cX4_must 22 = .ok (.invokevirtual 106, 3) := dk_182 0 106 (dk_at dksX4_must_1 0 rfl rfl)
theorem dX4_must_25 : decode cX4_must 25 = .ok (.return_, 1) := dk_177 (dk_at dksX4_must_1 3 rfl rfl)
theorem q99 : (Jvm.Cond.initialized "LastWordWood$Reader") ∈ lw_all := lw_g (lw_at lw_m1 9 rfl) rfl
theorem q293 : (Jvm.Cond.fieldLinkNest "LastWordWood$Reader" (22 : Nat) "LastWordWood" "tape" "[B" "LastWordWood") ∈ lw_tbl := lw_at lw_m1 203 rfl
theorem q294 : (Jvm.Cond.fieldLinkNest "LastWordWood$Reader" (19 : Nat) "LastWordWood" "taped" "I" "LastWordWood") ∈ lw_tbl := lw_at lw_m1 204 rfl
theorem q352 : (Jvm.Cond.instantiable "LastWordWood$Reader" (6 : Nat)) ∈ lw_all := lw_g (lw_at lw_m2 22 rfl) rfl
theorem q354 : (Jvm.Cond.instanceMethod ({ cls := "LastWordWood$Reader", name := "<init>", desc := "(LLastWordWood;)V" } : Jvm.MethodName)) ∈ lw_all := lw_g (lw_at lw_m2 24 rfl) rfl
theorem q355 : (Jvm.Cond.code ({ cls := "LastWordWood$Reader", name := "<init>", desc := "(LLastWordWood;)V" } : Jvm.MethodName) prog_10_method_1_code (2 : Nat) (Option.none : Option Jvm.ClassFile.FieldType)) ∈ lw_all := lw_g (lw_at lw_m2 25 rfl) rfl
theorem q356 : (Jvm.Cond.methodLink "LastWordWood$Reader" (9 : Nat) ({ cls := "java/lang/Object", name := "<init>", desc := "()V" } : Jvm.MethodName)) ∈ lw_all := lw_g (lw_at lw_m2 26 rfl) rfl
theorem q357 : (Jvm.Cond.fieldLink "LastWordWood$Reader" (15 : Nat) "LastWordWood$Reader" "at" "I") ∈ lw_all := lw_g (lw_at lw_m2 27 rfl) rfl
theorem q358 : (Jvm.Cond.fieldLink "LastWordWood$Reader" (34 : Nat) "LastWordWood$Reader" "start" "I") ∈ lw_all := lw_g (lw_at lw_m2 28 rfl) rfl
theorem q359 : (Jvm.Cond.fieldLink "LastWordWood$Reader" (81 : Nat) "LastWordWood$Reader" "token" "I") ∈ lw_all := lw_g (lw_at lw_m2 29 rfl) rfl
theorem q360 : (Jvm.Cond.fieldLink "LastWordWood$Reader" (94 : Nat) "LastWordWood$Reader" "value" "I") ∈ lw_all := lw_g (lw_at lw_m2 30 rfl) rfl
theorem q361 : (Jvm.Cond.fieldLink "LastWordWood$Reader" (109 : Nat) "LastWordWood$Reader" "open" "I") ∈ lw_all := lw_g (lw_at lw_m2 31 rfl) rfl
theorem q362 : (Jvm.Cond.fieldLink "LastWordWood$Reader" (3 : Nat) "LastWordWood$Reader" "this$0" "LLastWordWood;") ∈ lw_all := lw_g (lw_at lw_m2 32 rfl) rfl
theorem q363 : (Jvm.Cond.lays "LastWordWood$Reader" "LastWordWood$Reader" "at" "I") ∈ lw_all := lw_g (lw_at lw_m2 33 rfl) rfl
theorem q364 : (Jvm.Cond.soleField "LastWordWood$Reader" "at") ∈ lw_all := lw_g (lw_at lw_m2 34 rfl) rfl
theorem q365 : (Jvm.Cond.lays "LastWordWood$Reader" "LastWordWood$Reader" "start" "I") ∈ lw_all := lw_g (lw_at lw_m2 35 rfl) rfl
theorem q366 : (Jvm.Cond.soleField "LastWordWood$Reader" "start") ∈ lw_all := lw_g (lw_at lw_m2 36 rfl) rfl
theorem q367 : (Jvm.Cond.lays "LastWordWood$Reader" "LastWordWood$Reader" "token" "I") ∈ lw_all := lw_g (lw_at lw_m2 37 rfl) rfl
theorem q368 : (Jvm.Cond.soleField "LastWordWood$Reader" "token") ∈ lw_all := lw_g (lw_at lw_m2 38 rfl) rfl
theorem q369 : (Jvm.Cond.lays "LastWordWood$Reader" "LastWordWood$Reader" "value" "I") ∈ lw_all := lw_g (lw_at lw_m2 39 rfl) rfl
theorem q370 : (Jvm.Cond.soleField "LastWordWood$Reader" "value") ∈ lw_all := lw_g (lw_at lw_m2 40 rfl) rfl
theorem q371 : (Jvm.Cond.lays "LastWordWood$Reader" "LastWordWood$Reader" "open" "I") ∈ lw_all := lw_g (lw_at lw_m2 41 rfl) rfl
theorem q372 : (Jvm.Cond.soleField "LastWordWood$Reader" "open") ∈ lw_all := lw_g (lw_at lw_m2 42 rfl) rfl
theorem q373 : (Jvm.Cond.laysFinal "LastWordWood$Reader" "LastWordWood$Reader" "this$0" "LLastWordWood;") ∈ lw_all := lw_g (lw_at lw_m2 43 rfl) rfl
theorem q374 : (Jvm.Cond.soleField "LastWordWood$Reader" "this$0") ∈ lw_all := lw_g (lw_at lw_m2 44 rfl) rfl
theorem q375 : (Jvm.Cond.superclass "LastWordWood$Reader" "java/lang/Object") ∈ lw_all := lw_g (lw_at lw_m2 45 rfl) rfl
theorem q377 : (Jvm.Cond.instanceMethod ({ cls := "LastWordWood$Reader", name := "read", desc := "()Ljava/util/ArrayList;" } : Jvm.MethodName)) ∈ lw_all := lw_g (lw_at lw_m2 47 rfl) rfl
theorem q378 : (Jvm.Cond.selects "LastWordWood$Reader" ({ cls := "LastWordWood$Reader", name := "read", desc := "()Ljava/util/ArrayList;" } : Jvm.MethodName) ({ cls := "LastWordWood$Reader", name := "read", desc := "()Ljava/util/ArrayList;" } : Jvm.MethodName)) ∈ lw_all := lw_g (lw_at lw_m2 48 rfl) rfl
theorem q379 : (Jvm.Cond.code ({ cls := "LastWordWood$Reader", name := "read", desc := "()Ljava/util/ArrayList;" } : Jvm.MethodName) prog_10_method_19_code (4 : Nat) (Option.some (Jvm.ClassFile.FieldType.object "java/util/ArrayList"))) ∈ lw_all := lw_g (lw_at lw_m2 49 rfl) rfl
theorem q380 : (Jvm.Cond.classLink "LastWordWood$Reader" (159 : Nat) "java/util/ArrayList") ∈ lw_all := lw_g (lw_at lw_m2 50 rfl) rfl
theorem q381 : (Jvm.Cond.methodLink "LastWordWood$Reader" (161 : Nat) ({ cls := "java/util/ArrayList", name := "<init>", desc := "()V" } : Jvm.MethodName)) ∈ lw_all := lw_g (lw_at lw_m2 51 rfl) rfl
theorem q382 : (Jvm.Cond.methodLink "LastWordWood$Reader" (106 : Nat) ({ cls := "LastWordWood$Reader", name := "next", desc := "()V" } : Jvm.MethodName)) ∈ lw_all := lw_g (lw_at lw_m2 52 rfl) rfl
theorem q383 : (Jvm.Cond.privateMethod ({ cls := "LastWordWood$Reader", name := "next", desc := "()V" } : Jvm.MethodName)) ∈ lw_tbl := lw_at lw_m2 53 rfl
theorem q384 : (Jvm.Cond.instanceMethod ({ cls := "LastWordWood$Reader", name := "next", desc := "()V" } : Jvm.MethodName)) ∈ lw_all := lw_g (lw_at lw_m2 54 rfl) rfl
theorem q385 : (Jvm.Cond.code ({ cls := "LastWordWood$Reader", name := "next", desc := "()V" } : Jvm.MethodName) prog_10_method_9_code (1 : Nat) (Option.none : Option Jvm.ClassFile.FieldType)) ∈ lw_all := lw_g (lw_at lw_m2 55 rfl) rfl
theorem q386 : (Jvm.Cond.methodLink "LastWordWood$Reader" (26 : Nat) ({ cls := "LastWordWood$Reader", name := "see", desc := "()I" } : Jvm.MethodName)) ∈ lw_all := lw_g (lw_at lw_m2 56 rfl) rfl
theorem q387 : (Jvm.Cond.privateMethod ({ cls := "LastWordWood$Reader", name := "see", desc := "()I" } : Jvm.MethodName)) ∈ lw_tbl := lw_at lw_m2 57 rfl
theorem q388 : (Jvm.Cond.instanceMethod ({ cls := "LastWordWood$Reader", name := "see", desc := "()I" } : Jvm.MethodName)) ∈ lw_all := lw_g (lw_at lw_m2 58 rfl) rfl
theorem q389 : (Jvm.Cond.code ({ cls := "LastWordWood$Reader", name := "see", desc := "()I" } : Jvm.MethodName) prog_10_method_2_code (1 : Nat) (Option.some Jvm.ClassFile.FieldType.int)) ∈ lw_all := lw_g (lw_at lw_m2 59 rfl) rfl
theorem q390 : (Jvm.Cond.methodLink "LastWordWood$Reader" (84 : Nat) ({ cls := "LastWordWood$Reader", name := "isLetter", desc := "()Z" } : Jvm.MethodName)) ∈ lw_all := lw_g (lw_at lw_m2 60 rfl) rfl
theorem q391 : (Jvm.Cond.privateMethod ({ cls := "LastWordWood$Reader", name := "isLetter", desc := "()Z" } : Jvm.MethodName)) ∈ lw_tbl := lw_at lw_m2 61 rfl
theorem q392 : (Jvm.Cond.instanceMethod ({ cls := "LastWordWood$Reader", name := "isLetter", desc := "()Z" } : Jvm.MethodName)) ∈ lw_all := lw_g (lw_at lw_m2 62 rfl) rfl
theorem q393 : (Jvm.Cond.code ({ cls := "LastWordWood$Reader", name := "isLetter", desc := "()Z" } : Jvm.MethodName) prog_10_method_3_code (1 : Nat) (Option.some Jvm.ClassFile.FieldType.boolean)) ∈ lw_all := lw_g (lw_at lw_m2 63 rfl) rfl
theorem q394 : (Jvm.Cond.methodLinkNest "LastWordWood$Reader" (30 : Nat) ({ cls := "LastWordWood", name := "isIn", desc := "(III)Z" } : Jvm.MethodName) "LastWordWood") ∈ lw_tbl := lw_at lw_m2 64 rfl
theorem q395 : (Jvm.Cond.methodLink "LastWordWood$Reader" (88 : Nat) ({ cls := "LastWordWood$Reader", name := "keyword", desc := "()I" } : Jvm.MethodName)) ∈ lw_all := lw_g (lw_at lw_m2 65 rfl) rfl
theorem q396 : (Jvm.Cond.privateMethod ({ cls := "LastWordWood$Reader", name := "keyword", desc := "()I" } : Jvm.MethodName)) ∈ lw_tbl := lw_at lw_m2 66 rfl
theorem q397 : (Jvm.Cond.instanceMethod ({ cls := "LastWordWood$Reader", name := "keyword", desc := "()I" } : Jvm.MethodName)) ∈ lw_all := lw_g (lw_at lw_m2 67 rfl) rfl
theorem q398 : (Jvm.Cond.code ({ cls := "LastWordWood$Reader", name := "keyword", desc := "()I" } : Jvm.MethodName) prog_10_method_7_code (1 : Nat) (Option.some Jvm.ClassFile.FieldType.int)) ∈ lw_all := lw_g (lw_at lw_m2 68 rfl) rfl
theorem q399 : (Jvm.Cond.stringRef "LastWordWood$Reader" (68 : Nat) "when") ∈ lw_tbl := lw_at lw_m2 69 rfl
theorem q400 : (Jvm.Cond.methodLink "LastWordWood$Reader" (48 : Nat) ({ cls := "LastWordWood$Reader", name := "is", desc := "(Ljava/lang/String;)Z" } : Jvm.MethodName)) ∈ lw_all := lw_g (lw_at lw_m2 70 rfl) rfl
theorem q401 : (Jvm.Cond.privateMethod ({ cls := "LastWordWood$Reader", name := "is", desc := "(Ljava/lang/String;)Z" } : Jvm.MethodName)) ∈ lw_tbl := lw_at lw_m2 71 rfl
theorem q402 : (Jvm.Cond.instanceMethod ({ cls := "LastWordWood$Reader", name := "is", desc := "(Ljava/lang/String;)Z" } : Jvm.MethodName)) ∈ lw_all := lw_g (lw_at lw_m2 72 rfl) rfl
theorem q403 : (Jvm.Cond.code ({ cls := "LastWordWood$Reader", name := "is", desc := "(Ljava/lang/String;)Z" } : Jvm.MethodName) prog_10_method_5_code (4 : Nat) (Option.some Jvm.ClassFile.FieldType.boolean)) ∈ lw_all := lw_g (lw_at lw_m2 73 rfl) rfl
theorem q404 : (Jvm.Cond.methodLink "LastWordWood$Reader" (37 : Nat) ({ cls := "java/lang/String", name := "length", desc := "()I" } : Jvm.MethodName)) ∈ lw_all := lw_g (lw_at lw_m2 74 rfl) rfl
theorem q414 : (Jvm.Cond.methodLink "LastWordWood$Reader" (42 : Nat) ({ cls := "java/lang/String", name := "charAt", desc := "(I)C" } : Jvm.MethodName)) ∈ lw_all := lw_g (lw_at lw_m2 84 rfl) rfl
theorem q452 : (Jvm.Cond.stringRef "LastWordWood$Reader" (70 : Nat) "or") ∈ lw_tbl := lw_at lw_m2 122 rfl
theorem q453 : (Jvm.Cond.stringRef "LastWordWood$Reader" (72 : Nat) "and") ∈ lw_tbl := lw_at lw_m2 123 rfl
theorem q454 : (Jvm.Cond.stringRef "LastWordWood$Reader" (74 : Nat) "not") ∈ lw_tbl := lw_at lw_m2 124 rfl
theorem q455 : (Jvm.Cond.stringRef "LastWordWood$Reader" (76 : Nat) "grow") ∈ lw_tbl := lw_at lw_m2 125 rfl
theorem q456 : (Jvm.Cond.methodLink "LastWordWood$Reader" (78 : Nat) ({ cls := "LastWordWood$Reader", name := "known", desc := "()I" } : Jvm.MethodName)) ∈ lw_all := lw_g (lw_at lw_m2 126 rfl) rfl
theorem q457 : (Jvm.Cond.privateMethod ({ cls := "LastWordWood$Reader", name := "known", desc := "()I" } : Jvm.MethodName)) ∈ lw_tbl := lw_at lw_m2 127 rfl
theorem q458 : (Jvm.Cond.instanceMethod ({ cls := "LastWordWood$Reader", name := "known", desc := "()I" } : Jvm.MethodName)) ∈ lw_all := lw_g (lw_at lw_m2 128 rfl) rfl
theorem q459 : (Jvm.Cond.code ({ cls := "LastWordWood$Reader", name := "known", desc := "()I" } : Jvm.MethodName) prog_10_method_6_code (1 : Nat) (Option.some Jvm.ClassFile.FieldType.int)) ∈ lw_all := lw_g (lw_at lw_m2 129 rfl) rfl
theorem q460 : (Jvm.Cond.stringRef "LastWordWood$Reader" (46 : Nat) "word") ∈ lw_tbl := lw_at lw_m2 130 rfl
theorem q461 : (Jvm.Cond.stringRef "LastWordWood$Reader" (52 : Nat) "size") ∈ lw_tbl := lw_at lw_m2 131 rfl
theorem q462 : (Jvm.Cond.stringRef "LastWordWood$Reader" (54 : Nat) "age") ∈ lw_tbl := lw_at lw_m2 132 rfl
theorem q463 : (Jvm.Cond.stringRef "LastWordWood$Reader" (56 : Nat) "damp") ∈ lw_tbl := lw_at lw_m2 133 rfl
theorem q464 : (Jvm.Cond.stringRef "LastWordWood$Reader" (58 : Nat) "near") ∈ lw_tbl := lw_at lw_m2 134 rfl
theorem q465 : (Jvm.Cond.stringRef "LastWordWood$Reader" (60 : Nat) "like") ∈ lw_tbl := lw_at lw_m2 135 rfl
theorem q466 : (Jvm.Cond.stringRef "LastWordWood$Reader" (62 : Nat) "x") ∈ lw_tbl := lw_at lw_m2 136 rfl
theorem q467 : (Jvm.Cond.stringRef "LastWordWood$Reader" (64 : Nat) "y") ∈ lw_tbl := lw_at lw_m2 137 rfl
theorem q468 : (Jvm.Cond.stringRef "LastWordWood$Reader" (66 : Nat) "frozen") ∈ lw_tbl := lw_at lw_m2 138 rfl
theorem q469 : (Jvm.Cond.methodLink "LastWordWood$Reader" (91 : Nat) ({ cls := "LastWordWood$Reader", name := "isDigit", desc := "()Z" } : Jvm.MethodName)) ∈ lw_all := lw_g (lw_at lw_m2 139 rfl) rfl
theorem q470 : (Jvm.Cond.privateMethod ({ cls := "LastWordWood$Reader", name := "isDigit", desc := "()Z" } : Jvm.MethodName)) ∈ lw_tbl := lw_at lw_m2 140 rfl
theorem q471 : (Jvm.Cond.instanceMethod ({ cls := "LastWordWood$Reader", name := "isDigit", desc := "()Z" } : Jvm.MethodName)) ∈ lw_all := lw_g (lw_at lw_m2 141 rfl) rfl
theorem q472 : (Jvm.Cond.code ({ cls := "LastWordWood$Reader", name := "isDigit", desc := "()Z" } : Jvm.MethodName) prog_10_method_4_code (1 : Nat) (Option.some Jvm.ClassFile.FieldType.boolean)) ∈ lw_all := lw_g (lw_at lw_m2 142 rfl) rfl
theorem q473 : (Jvm.Cond.methodLink "LastWordWood$Reader" (97 : Nat) ({ cls := "LastWordWood$Reader", name := "isMark", desc := "(I)Z" } : Jvm.MethodName)) ∈ lw_all := lw_g (lw_at lw_m2 143 rfl) rfl
theorem q474 : (Jvm.Cond.privateMethod ({ cls := "LastWordWood$Reader", name := "isMark", desc := "(I)Z" } : Jvm.MethodName)) ∈ lw_tbl := lw_at lw_m2 144 rfl
theorem q475 : (Jvm.Cond.instanceMethod ({ cls := "LastWordWood$Reader", name := "isMark", desc := "(I)Z" } : Jvm.MethodName)) ∈ lw_all := lw_g (lw_at lw_m2 145 rfl) rfl
theorem q476 : (Jvm.Cond.code ({ cls := "LastWordWood$Reader", name := "isMark", desc := "(I)Z" } : Jvm.MethodName) prog_10_method_8_code (2 : Nat) (Option.some Jvm.ClassFile.FieldType.boolean)) ∈ lw_all := lw_g (lw_at lw_m2 146 rfl) rfl
theorem q477 : (Jvm.Cond.classLink "LastWordWood$Reader" (101 : Nat) "LastWordWood$Fault") ∈ lw_all := lw_g (lw_at lw_m2 147 rfl) rfl
theorem q514 : (Jvm.Cond.methodLink "LastWordWood$Reader" (103 : Nat) ({ cls := "LastWordWood$Fault", name := "<init>", desc := "(II)V" } : Jvm.MethodName)) ∈ lw_all := lw_g (lw_at lw_m2 184 rfl) rfl
theorem q541 : (Jvm.Cond.methodLink "LastWordWood$Reader" (162 : Nat) ({ cls := "java/util/ArrayList", name := "size", desc := "()I" } : Jvm.MethodName)) ∈ lw_all := lw_g (lw_at lw_m2 211 rfl) rfl
theorem q545 : (Jvm.Cond.methodLink "LastWordWood$Reader" (156 : Nat) ({ cls := "LastWordWood$Reader", name := "sum", desc := "()LLastWordWood$Term;" } : Jvm.MethodName)) ∈ lw_all := lw_g (lw_at lw_m2 215 rfl) rfl
theorem q546 : (Jvm.Cond.privateMethod ({ cls := "LastWordWood$Reader", name := "sum", desc := "()LLastWordWood$Term;" } : Jvm.MethodName)) ∈ lw_tbl := lw_at lw_m2 216 rfl
theorem q547 : (Jvm.Cond.instanceMethod ({ cls := "LastWordWood$Reader", name := "sum", desc := "()LLastWordWood$Term;" } : Jvm.MethodName)) ∈ lw_all := lw_g (lw_at lw_m2 217 rfl) rfl
theorem q548 : (Jvm.Cond.code ({ cls := "LastWordWood$Reader", name := "sum", desc := "()LLastWordWood$Term;" } : Jvm.MethodName) prog_10_method_13_code (3 : Nat) (Option.some (Jvm.ClassFile.FieldType.object "LastWordWood$Term"))) ∈ lw_all := lw_g (lw_at lw_m2 218 rfl) rfl
theorem q549 : (Jvm.Cond.methodLink "LastWordWood$Reader" (112 : Nat) ({ cls := "LastWordWood$Reader", name := "product", desc := "()LLastWordWood$Term;" } : Jvm.MethodName)) ∈ lw_all := lw_g (lw_at lw_m2 219 rfl) rfl
theorem q550 : (Jvm.Cond.privateMethod ({ cls := "LastWordWood$Reader", name := "product", desc := "()LLastWordWood$Term;" } : Jvm.MethodName)) ∈ lw_tbl := lw_at lw_m2 220 rfl
theorem q551 : (Jvm.Cond.instanceMethod ({ cls := "LastWordWood$Reader", name := "product", desc := "()LLastWordWood$Term;" } : Jvm.MethodName)) ∈ lw_all := lw_g (lw_at lw_m2 221 rfl) rfl
theorem q552 : (Jvm.Cond.code ({ cls := "LastWordWood$Reader", name := "product", desc := "()LLastWordWood$Term;" } : Jvm.MethodName) prog_10_method_14_code (3 : Nat) (Option.some (Jvm.ClassFile.FieldType.object "LastWordWood$Term"))) ∈ lw_all := lw_g (lw_at lw_m2 222 rfl) rfl
theorem q553 : (Jvm.Cond.methodLink "LastWordWood$Reader" (121 : Nat) ({ cls := "LastWordWood$Reader", name := "unit", desc := "()LLastWordWood$Term;" } : Jvm.MethodName)) ∈ lw_all := lw_g (lw_at lw_m2 223 rfl) rfl
theorem q554 : (Jvm.Cond.privateMethod ({ cls := "LastWordWood$Reader", name := "unit", desc := "()LLastWordWood$Term;" } : Jvm.MethodName)) ∈ lw_tbl := lw_at lw_m2 224 rfl
theorem q555 : (Jvm.Cond.instanceMethod ({ cls := "LastWordWood$Reader", name := "unit", desc := "()LLastWordWood$Term;" } : Jvm.MethodName)) ∈ lw_all := lw_g (lw_at lw_m2 225 rfl) rfl
theorem q556 : (Jvm.Cond.code ({ cls := "LastWordWood$Reader", name := "unit", desc := "()LLastWordWood$Term;" } : Jvm.MethodName) prog_10_method_15_code (2 : Nat) (Option.some (Jvm.ClassFile.FieldType.object "LastWordWood$Term"))) ∈ lw_all := lw_g (lw_at lw_m2 226 rfl) rfl
theorem q557 : (Jvm.Cond.classLink "LastWordWood$Reader" (124 : Nat) "LastWordWood$Fixed") ∈ lw_all := lw_g (lw_at lw_m2 227 rfl) rfl
theorem q559 : (Jvm.Cond.methodLink "LastWordWood$Reader" (126 : Nat) ({ cls := "LastWordWood$Reader", name := "number", desc := "(I)I" } : Jvm.MethodName)) ∈ lw_all := lw_g (lw_at lw_m2 229 rfl) rfl
theorem q560 : (Jvm.Cond.privateMethod ({ cls := "LastWordWood$Reader", name := "number", desc := "(I)I" } : Jvm.MethodName)) ∈ lw_tbl := lw_at lw_m2 230 rfl
theorem q561 : (Jvm.Cond.instanceMethod ({ cls := "LastWordWood$Reader", name := "number", desc := "(I)I" } : Jvm.MethodName)) ∈ lw_all := lw_g (lw_at lw_m2 231 rfl) rfl
theorem q562 : (Jvm.Cond.code ({ cls := "LastWordWood$Reader", name := "number", desc := "(I)I" } : Jvm.MethodName) prog_10_method_11_code (3 : Nat) (Option.some Jvm.ClassFile.FieldType.int)) ∈ lw_all := lw_g (lw_at lw_m2 232 rfl) rfl
theorem q563 : (Jvm.Cond.methodLink "LastWordWood$Reader" (130 : Nat) ({ cls := "LastWordWood$Fixed", name := "<init>", desc := "(I)V" } : Jvm.MethodName)) ∈ lw_all := lw_g (lw_at lw_m2 233 rfl) rfl
theorem q574 : (Jvm.Cond.classLink "LastWordWood$Reader" (133 : Nat) "LastWordWood$Known") ∈ lw_all := lw_g (lw_at lw_m3 4 rfl) rfl
theorem q576 : (Jvm.Cond.methodLink "LastWordWood$Reader" (135 : Nat) ({ cls := "LastWordWood$Known", name := "<init>", desc := "(I)V" } : Jvm.MethodName)) ∈ lw_all := lw_g (lw_at lw_m3 6 rfl) rfl
theorem q584 : (Jvm.Cond.classLink "LastWordWood$Reader" (116 : Nat) "LastWordWood$Joined") ∈ lw_all := lw_g (lw_at lw_m3 14 rfl) rfl
theorem q586 : (Jvm.Cond.methodLink "LastWordWood$Reader" (118 : Nat) ({ cls := "LastWordWood$Joined", name := "<init>", desc := "(LLastWordWood$Term;ILLastWordWood$Term;)V" } : Jvm.MethodName)) ∈ lw_all := lw_g (lw_at lw_m3 16 rfl) rfl
theorem q600 : (Jvm.Cond.methodLink "LastWordWood$Reader" (150 : Nat) ({ cls := "LastWordWood$Reader", name := "any", desc := "()LLastWordWood$Term;" } : Jvm.MethodName)) ∈ lw_all := lw_g (lw_at lw_m3 30 rfl) rfl
theorem q601 : (Jvm.Cond.privateMethod ({ cls := "LastWordWood$Reader", name := "any", desc := "()LLastWordWood$Term;" } : Jvm.MethodName)) ∈ lw_tbl := lw_at lw_m3 31 rfl
theorem q602 : (Jvm.Cond.instanceMethod ({ cls := "LastWordWood$Reader", name := "any", desc := "()LLastWordWood$Term;" } : Jvm.MethodName)) ∈ lw_all := lw_g (lw_at lw_m3 32 rfl) rfl
theorem q603 : (Jvm.Cond.code ({ cls := "LastWordWood$Reader", name := "any", desc := "()LLastWordWood$Term;" } : Jvm.MethodName) prog_10_method_16_code (2 : Nat) (Option.some (Jvm.ClassFile.FieldType.object "LastWordWood$Term"))) ∈ lw_all := lw_g (lw_at lw_m3 33 rfl) rfl
theorem q604 : (Jvm.Cond.methodLink "LastWordWood$Reader" (136 : Nat) ({ cls := "LastWordWood$Reader", name := "all", desc := "()LLastWordWood$Term;" } : Jvm.MethodName)) ∈ lw_all := lw_g (lw_at lw_m3 34 rfl) rfl
theorem q605 : (Jvm.Cond.privateMethod ({ cls := "LastWordWood$Reader", name := "all", desc := "()LLastWordWood$Term;" } : Jvm.MethodName)) ∈ lw_tbl := lw_at lw_m3 35 rfl
theorem q606 : (Jvm.Cond.instanceMethod ({ cls := "LastWordWood$Reader", name := "all", desc := "()LLastWordWood$Term;" } : Jvm.MethodName)) ∈ lw_all := lw_g (lw_at lw_m3 36 rfl) rfl
theorem q607 : (Jvm.Cond.code ({ cls := "LastWordWood$Reader", name := "all", desc := "()LLastWordWood$Term;" } : Jvm.MethodName) prog_10_method_17_code (2 : Nat) (Option.some (Jvm.ClassFile.FieldType.object "LastWordWood$Term"))) ∈ lw_all := lw_g (lw_at lw_m3 37 rfl) rfl
theorem q608 : (Jvm.Cond.methodLink "LastWordWood$Reader" (139 : Nat) ({ cls := "LastWordWood$Reader", name := "one", desc := "()LLastWordWood$Term;" } : Jvm.MethodName)) ∈ lw_all := lw_g (lw_at lw_m3 38 rfl) rfl
theorem q609 : (Jvm.Cond.privateMethod ({ cls := "LastWordWood$Reader", name := "one", desc := "()LLastWordWood$Term;" } : Jvm.MethodName)) ∈ lw_tbl := lw_at lw_m3 39 rfl
theorem q610 : (Jvm.Cond.instanceMethod ({ cls := "LastWordWood$Reader", name := "one", desc := "()LLastWordWood$Term;" } : Jvm.MethodName)) ∈ lw_all := lw_g (lw_at lw_m3 40 rfl) rfl
theorem q611 : (Jvm.Cond.code ({ cls := "LastWordWood$Reader", name := "one", desc := "()LLastWordWood$Term;" } : Jvm.MethodName) prog_10_method_18_code (3 : Nat) (Option.some (Jvm.ClassFile.FieldType.object "LastWordWood$Term"))) ∈ lw_all := lw_g (lw_at lw_m3 41 rfl) rfl
theorem q612 : (Jvm.Cond.methodLink "LastWordWood$Reader" (142 : Nat) ({ cls := "LastWordWood$Reader", name := "opens", desc := "()V" } : Jvm.MethodName)) ∈ lw_all := lw_g (lw_at lw_m3 42 rfl) rfl
theorem q613 : (Jvm.Cond.privateMethod ({ cls := "LastWordWood$Reader", name := "opens", desc := "()V" } : Jvm.MethodName)) ∈ lw_tbl := lw_at lw_m3 43 rfl
theorem q614 : (Jvm.Cond.instanceMethod ({ cls := "LastWordWood$Reader", name := "opens", desc := "()V" } : Jvm.MethodName)) ∈ lw_all := lw_g (lw_at lw_m3 44 rfl) rfl
theorem q615 : (Jvm.Cond.code ({ cls := "LastWordWood$Reader", name := "opens", desc := "()V" } : Jvm.MethodName) prog_10_method_12_code (1 : Nat) (Option.none : Option Jvm.ClassFile.FieldType)) ∈ lw_all := lw_g (lw_at lw_m3 45 rfl) rfl
theorem q616 : (Jvm.Cond.classLink "LastWordWood$Reader" (145 : Nat) "LastWordWood$Not") ∈ lw_all := lw_g (lw_at lw_m3 46 rfl) rfl
theorem q618 : (Jvm.Cond.methodLink "LastWordWood$Reader" (147 : Nat) ({ cls := "LastWordWood$Not", name := "<init>", desc := "(LLastWordWood$Term;)V" } : Jvm.MethodName)) ∈ lw_all := lw_g (lw_at lw_m3 48 rfl) rfl
theorem q626 : (Jvm.Cond.methodLink "LastWordWood$Reader" (153 : Nat) ({ cls := "LastWordWood$Reader", name := "must", desc := "(I)V" } : Jvm.MethodName)) ∈ lw_all := lw_g (lw_at lw_m3 56 rfl) rfl
theorem q627 : (Jvm.Cond.privateMethod ({ cls := "LastWordWood$Reader", name := "must", desc := "(I)V" } : Jvm.MethodName)) ∈ lw_tbl := lw_at lw_m3 57 rfl
theorem q628 : (Jvm.Cond.instanceMethod ({ cls := "LastWordWood$Reader", name := "must", desc := "(I)V" } : Jvm.MethodName)) ∈ lw_all := lw_g (lw_at lw_m3 58 rfl) rfl
theorem q629 : (Jvm.Cond.code ({ cls := "LastWordWood$Reader", name := "must", desc := "(I)V" } : Jvm.MethodName) prog_10_method_10_code (2 : Nat) (Option.none : Option Jvm.ClassFile.FieldType)) ∈ lw_all := lw_g (lw_at lw_m3 59 rfl) rfl
theorem q630 : (Jvm.Cond.classLink "LastWordWood$Reader" (164 : Nat) "LastWordWood$Line") ∈ lw_all := lw_g (lw_at lw_m3 60 rfl) rfl
theorem q632 : (Jvm.Cond.methodLink "LastWordWood$Reader" (166 : Nat) ({ cls := "LastWordWood$Line", name := "<init>", desc := "(LLastWordWood$Term;LLastWordWood$Term;)V" } : Jvm.MethodName)) ∈ lw_all := lw_g (lw_at lw_m3 62 rfl) rfl
theorem q645 : (Jvm.Cond.methodLink "LastWordWood$Reader" (169 : Nat) ({ cls := "java/util/ArrayList", name := "add", desc := "(Ljava/lang/Object;)Z" } : Jvm.MethodName)) ∈ lw_all := lw_g (lw_at lw_m3 75 rfl) rfl
theorem q685 : (Jvm.Cond.selects "LastWordWood$Reader" ({ cls := "java/lang/Object", name := "getClass", desc := "()Ljava/lang/Class;" } : Jvm.MethodName) ({ cls := "java/lang/Object", name := "getClass", desc := "()Ljava/lang/Class;" } : Jvm.MethodName)) ∈ lw_all := lw_g (lw_at lw_m3 115 rfl) rfl
theorem q1481 : (Jvm.Cond.castable "LastWordWood$Reader" "java/lang/Object") ∈ lw_tbl := lw_at lw_m6 191 rfl
theorem in_X4 : ∀ w ∈ wsX40, w ∈ lw_all := lw_in wsX40 [363, 365, 367, 369, 371, 373] (by decide +kernel) (by decide +kernel)
