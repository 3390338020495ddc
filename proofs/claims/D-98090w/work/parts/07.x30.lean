/-! LastWordWoodModel -/
set_option maxRecDepth 100000
def RX3 : String := "LastWordWoodModel"
def TX3 : u_T := fun k => match k with
  | 0 => ("LastWordWoodModel", "told", "I", false)
  | 1 => ("LastWordWoodModel", "now", "[I", true)
  | 2 => ("LastWordWoodModel", "rows", "[I", true)
  | 3 => ("LastWordWoodModel", "undoable", "I", false)
  | 4 => ("LastWordWoodModel", "state", "I", false)
  | 5 => ("LastWordWoodModel", "wide", "I", false)
  | 6 => ("LastWordWoodModel", "high", "I", false)
  | 7 => ("LastWordWoodModel", "damps", "[I", true)
  | 8 => ("LastWordWoodModel", "wordMany", "I", false)
  | 9 => ("LastWordWoodModel", "worthOf", "[I", true)
  | 10 => ("LastWordWoodModel", "poisonOf", "[I", true)
  | 11 => ("LastWordWoodModel", "curesOf", "[I", true)
  | 12 => ("LastWordWoodModel", "people", "I", false)
  | 13 => ("LastWordWoodModel", "rain", "I", false)
  | 14 => ("LastWordWoodModel", "frost", "I", false)
  | 15 => ("LastWordWoodModel", "deer", "I", false)
  | 16 => ("LastWordWoodModel", "frozen", "I", false)
  | 17 => ("LastWordWoodModel", "day", "I", false)
  | 18 => ("LastWordWoodModel", "book", "[I", true)
  | 19 => ("LastWordWoodModel", "tape", "[I", true)
  | 20 => ("LastWordWoodModel", "taped", "I", false)
  | 21 => ("LastWordWoodModel", "spot", "I", false)
  | 22 => ("LastWordWoodModel", "from", "I", false)
  | 23 => ("LastWordWoodModel", "token", "I", false)
  | 24 => ("LastWordWoodModel", "value", "I", false)
  | 25 => ("LastWordWoodModel", "words", "[I", true)
  | 26 => ("LastWordWoodModel", "lineMany", "I", false)
  | 27 => ("LastWordWoodModel", "lineWhen", "[I", true)
  | 28 => ("LastWordWoodModel", "lineFrom", "[I", true)
  | 29 => ("LastWordWoodModel", "lineTo", "[I", true)
  | 30 => ("LastWordWoodModel", "op", "[I", true)
  | 31 => ("LastWordWoodModel", "arg", "[I", true)
  | 32 => ("LastWordWoodModel", "codes", "I", false)
  | 33 => ("LastWordWoodModel", "open", "I", false)
  | 34 => ("LastWordWoodModel", "pending", "[I", true)
  | 35 => ("LastWordWoodModel", "pendings", "I", false)
  | 36 => ("LastWordWoodModel", "readFault", "I", false)
  | 37 => ("LastWordWoodModel", "readPlace", "I", false)
  | 38 => ("LastWordWoodModel", "faultKind", "I", false)
  | 39 => ("LastWordWoodModel", "faultPlace", "I", false)
  | 40 => ("LastWordWoodModel", "asked", "[I", true)
  | 41 => ("LastWordWoodModel", "stack", "[I", true)
  | 42 => ("LastWordWoodModel", "sizeOf", "[I", true)
  | 43 => ("LastWordWoodModel", "grown", "[I", true)
  | 44 => ("LastWordWoodModel", "lacking", "[I", true)
  | 45 => ("LastWordWoodModel", "placeOf", "[I", true)
  | 46 => ("LastWordWoodModel", "isTaking", "Z", false)
  | 47 => ("LastWordWoodModel", "hasImage", "Z", false)
  | 48 => ("LastWordWoodModel", "keptAt", "I", false)
  | _ => ("LastWordWoodModel", "images", "[I", true)
def tyX3 : Nat → FieldType := fun k => match k with
  | 0 => .int
  | 1 => .array .int
  | 2 => .array .int
  | 3 => .int
  | 4 => .int
  | 5 => .int
  | 6 => .int
  | 7 => .array .int
  | 8 => .int
  | 9 => .array .int
  | 10 => .array .int
  | 11 => .array .int
  | 12 => .int
  | 13 => .int
  | 14 => .int
  | 15 => .int
  | 16 => .int
  | 17 => .int
  | 18 => .array .int
  | 19 => .array .int
  | 20 => .int
  | 21 => .int
  | 22 => .int
  | 23 => .int
  | 24 => .int
  | 25 => .array .int
  | 26 => .int
  | 27 => .array .int
  | 28 => .array .int
  | 29 => .array .int
  | 30 => .array .int
  | 31 => .array .int
  | 32 => .int
  | 33 => .int
  | 34 => .array .int
  | 35 => .int
  | 36 => .int
  | 37 => .int
  | 38 => .int
  | 39 => .int
  | 40 => .array .int
  | 41 => .array .int
  | 42 => .array .int
  | 43 => .array .int
  | 44 => .array .int
  | 45 => .array .int
  | 46 => .boolean
  | 47 => .boolean
  | 48 => .int
  | _ => .array .int
abbrev wsX30 : List Cond := u_ws RX3 TX3 50
set_option maxRecDepth 100000 in
theorem nmX3 : ∀ a, a < 50 → ∀ b, b < 50 → a ≠ b → (TX3 a).2.1 ≠ (TX3 b).2.1 := by decide +kernel
set_option maxRecDepth 100000 in
theorem tyX3_ok : ∀ k, k < 50 → parseFieldDescriptor (TX3 k).2.2.1 = some (tyX3 k) := by decide +kernel
abbrev cX3_init : ByteArray := prog_14_method_1_code
def yX3_init : MethodName := ⟨RX3, "<init>", "()V"⟩
def dkwX3_init_24 : List UInt8 := [181, 0, 83, 177]
abbrev dktX3_init_24 : List UInt8 := dkwX3_init_24 ++ []
def dkwX3_init_23 : List UInt8 := [17, 16, 0, 188, 10, 181, 0, 77, 42, 16, 12, 188, 10, 181, 0, 80, 42, 17, 7, 8, 188, 10]
abbrev dktX3_init_23 : List UInt8 := dkwX3_init_23 ++ dktX3_init_24
def dkwX3_init_22 : List UInt8 := [188, 10, 181, 0, 68, 42, 16, 64, 188, 10, 181, 0, 71, 42, 16, 64, 188, 10, 181, 0, 74, 42]
abbrev dktX3_init_22 : List UInt8 := dkwX3_init_22 ++ dktX3_init_23
def dkwX3_init_21 : List UInt8 := [16, 40, 188, 10, 181, 0, 59, 42, 2, 181, 0, 62, 42, 16, 9, 188, 10, 181, 0, 65, 42, 17, 1, 164]
abbrev dktX3_init_21 : List UInt8 := dkwX3_init_21 ++ dktX3_init_22
def dkwX3_init_20 : List UInt8 := [188, 10, 181, 0, 50, 42, 17, 3, 32, 188, 10, 181, 0, 53, 42, 17, 3, 32, 188, 10, 181, 0, 56, 42]
abbrev dktX3_init_20 : List UInt8 := dkwX3_init_20 ++ dktX3_init_21
def dkwX3_init_19 : List UInt8 := [79, 181, 0, 41, 42, 16, 32, 188, 10, 181, 0, 44, 42, 16, 32, 188, 10, 181, 0, 47, 42, 16, 32]
abbrev dktX3_init_19 : List UInt8 := dkwX3_init_19 ++ dktX3_init_20
def dkwX3_init_18 : List UInt8 := [79, 89, 16, 58, 16, 122, 79, 89, 16, 59, 16, 101, 79, 89, 16, 60, 16, 110, 79, 89, 16, 61, 16, 32]
abbrev dktX3_init_18 : List UInt8 := dkwX3_init_18 ++ dktX3_init_19
def dkwX3_init_17 : List UInt8 := [79, 89, 16, 54, 16, 32, 79, 89, 16, 55, 16, 102, 79, 89, 16, 56, 16, 114, 79, 89, 16, 57, 16, 111]
abbrev dktX3_init_17 : List UInt8 := dkwX3_init_17 ++ dktX3_init_18
def dkwX3_init_16 : List UInt8 := [79, 89, 16, 50, 16, 32, 79, 89, 16, 51, 16, 120, 79, 89, 16, 52, 16, 32, 79, 89, 16, 53, 16, 121]
abbrev dktX3_init_16 : List UInt8 := dkwX3_init_16 ++ dktX3_init_17
def dkwX3_init_15 : List UInt8 := [79, 89, 16, 46, 16, 108, 79, 89, 16, 47, 16, 105, 79, 89, 16, 48, 16, 107, 79, 89, 16, 49, 16, 101]
abbrev dktX3_init_15 : List UInt8 := dkwX3_init_15 ++ dktX3_init_16
def dkwX3_init_14 : List UInt8 := [79, 89, 16, 42, 16, 101, 79, 89, 16, 43, 16, 97, 79, 89, 16, 44, 16, 114, 79, 89, 16, 45, 16, 32]
abbrev dktX3_init_14 : List UInt8 := dkwX3_init_14 ++ dktX3_init_15
def dkwX3_init_13 : List UInt8 := [79, 89, 16, 38, 16, 109, 79, 89, 16, 39, 16, 112, 79, 89, 16, 40, 16, 32, 79, 89, 16, 41, 16, 110]
abbrev dktX3_init_13 : List UInt8 := dkwX3_init_13 ++ dktX3_init_14
def dkwX3_init_12 : List UInt8 := [79, 89, 16, 34, 16, 101, 79, 89, 16, 35, 16, 32, 79, 89, 16, 36, 16, 100, 79, 89, 16, 37, 16, 97]
abbrev dktX3_init_12 : List UInt8 := dkwX3_init_12 ++ dktX3_init_13
def dkwX3_init_11 : List UInt8 := [79, 89, 16, 30, 16, 101, 79, 89, 16, 31, 16, 32, 79, 89, 16, 32, 16, 97, 79, 89, 16, 33, 16, 103]
abbrev dktX3_init_11 : List UInt8 := dkwX3_init_11 ++ dktX3_init_12
def dkwX3_init_10 : List UInt8 := [79, 89, 16, 26, 16, 32, 79, 89, 16, 27, 16, 115, 79, 89, 16, 28, 16, 105, 79, 89, 16, 29, 16, 122]
abbrev dktX3_init_10 : List UInt8 := dkwX3_init_10 ++ dktX3_init_11
def dkwX3_init_9 : List UInt8 := [79, 89, 16, 22, 16, 119, 79, 89, 16, 23, 16, 111, 79, 89, 16, 24, 16, 114, 79, 89, 16, 25, 16, 100]
abbrev dktX3_init_9 : List UInt8 := dkwX3_init_9 ++ dktX3_init_10
def dkwX3_init_8 : List UInt8 := [79, 89, 16, 18, 16, 110, 79, 89, 16, 19, 16, 111, 79, 89, 16, 20, 16, 116, 79, 89, 16, 21, 16, 32]
abbrev dktX3_init_8 : List UInt8 := dkwX3_init_8 ++ dktX3_init_9
def dkwX3_init_7 : List UInt8 := [79, 89, 16, 14, 16, 97, 79, 89, 16, 15, 16, 110, 79, 89, 16, 16, 16, 100, 79, 89, 16, 17, 16, 32]
abbrev dktX3_init_7 : List UInt8 := dkwX3_init_7 ++ dktX3_init_8
def dkwX3_init_6 : List UInt8 := [79, 89, 16, 10, 16, 32, 79, 89, 16, 11, 16, 111, 79, 89, 16, 12, 16, 114, 79, 89, 16, 13, 16, 32]
abbrev dktX3_init_6 : List UInt8 := dkwX3_init_6 ++ dktX3_init_7
def dkwX3_init_5 : List UInt8 := [79, 89, 16, 6, 16, 119, 79, 89, 16, 7, 16, 104, 79, 89, 16, 8, 16, 101, 79, 89, 16, 9, 16, 110]
abbrev dktX3_init_5 : List UInt8 := dkwX3_init_5 ++ dktX3_init_6
def dkwX3_init_4 : List UInt8 := [89, 4, 16, 103, 79, 89, 5, 16, 114, 79, 89, 6, 16, 111, 79, 89, 7, 16, 119, 79, 89, 8, 16, 32]
abbrev dktX3_init_4 : List UInt8 := dkwX3_init_4 ++ dktX3_init_5
def dkwX3_init_3 : List UInt8 := [188, 10, 181, 0, 35, 42, 17, 1, 144, 188, 10, 181, 0, 38, 42, 16, 62, 188, 10, 89, 3, 16, 32, 79]
abbrev dktX3_init_3 : List UInt8 := dkwX3_init_3 ++ dktX3_init_4
def dkwX3_init_2 : List UInt8 := [181, 0, 26, 42, 16, 12, 188, 10, 181, 0, 29, 42, 16, 12, 188, 10, 181, 0, 32, 42, 17, 1, 144]
abbrev dktX3_init_2 : List UInt8 := dkwX3_init_2 ++ dktX3_init_3
def dkwX3_init_1 : List UInt8 := [16, 6, 181, 0, 16, 42, 16, 6, 181, 0, 20, 42, 16, 64, 188, 10, 181, 0, 23, 42, 16, 12, 188, 10]
abbrev dktX3_init_1 : List UInt8 := dkwX3_init_1 ++ dktX3_init_2
def dkwX3_init_0 : List UInt8 := [42, 183, 0, 1, 42, 17, 1, 92, 188, 10, 181, 0, 7, 42, 17, 16, 80, 188, 10, 181, 0, 13, 42]
abbrev dktX3_init_0 : List UInt8 := dkwX3_init_0 ++ dktX3_init_1
theorem dksX3_init_0 : cX3_init.data.toList.drop 0 = dktX3_init_0 := by decide +kernel
theorem dksX3_init_1 : cX3_init.data.toList.drop 23 = dktX3_init_1 := dk_seg dksX3_init_0 23 rfl rfl
theorem dksX3_init_2 : cX3_init.data.toList.drop 47 = dktX3_init_2 := dk_seg dksX3_init_1 24 rfl rfl
theorem dksX3_init_3 : cX3_init.data.toList.drop 70 = dktX3_init_3 := dk_seg dksX3_init_2 23 rfl rfl
theorem dksX3_init_4 : cX3_init.data.toList.drop 94 = dktX3_init_4 := dk_seg dksX3_init_3 24 rfl rfl
theorem dksX3_init_5 : cX3_init.data.toList.drop 118 = dktX3_init_5 := dk_seg dksX3_init_4 24 rfl rfl
theorem dksX3_init_6 : cX3_init.data.toList.drop 142 = dktX3_init_6 := dk_seg dksX3_init_5 24 rfl rfl
theorem dksX3_init_7 : cX3_init.data.toList.drop 166 = dktX3_init_7 := dk_seg dksX3_init_6 24 rfl rfl
theorem dksX3_init_8 : cX3_init.data.toList.drop 190 = dktX3_init_8 := dk_seg dksX3_init_7 24 rfl rfl
theorem dksX3_init_9 : cX3_init.data.toList.drop 214 = dktX3_init_9 := dk_seg dksX3_init_8 24 rfl rfl
theorem dksX3_init_10 : cX3_init.data.toList.drop 238 = dktX3_init_10 := dk_seg dksX3_init_9 24 rfl rfl
theorem dksX3_init_11 : cX3_init.data.toList.drop 262 = dktX3_init_11 := dk_seg dksX3_init_10 24 rfl rfl
theorem dksX3_init_12 : cX3_init.data.toList.drop 286 = dktX3_init_12 := dk_seg dksX3_init_11 24 rfl rfl
theorem dksX3_init_13 : cX3_init.data.toList.drop 310 = dktX3_init_13 := dk_seg dksX3_init_12 24 rfl rfl
theorem dksX3_init_14 : cX3_init.data.toList.drop 334 = dktX3_init_14 := dk_seg dksX3_init_13 24 rfl rfl
theorem dksX3_init_15 : cX3_init.data.toList.drop 358 = dktX3_init_15 := dk_seg dksX3_init_14 24 rfl rfl
theorem dksX3_init_16 : cX3_init.data.toList.drop 382 = dktX3_init_16 := dk_seg dksX3_init_15 24 rfl rfl
theorem dksX3_init_17 : cX3_init.data.toList.drop 406 = dktX3_init_17 := dk_seg dksX3_init_16 24 rfl rfl
theorem dksX3_init_18 : cX3_init.data.toList.drop 430 = dktX3_init_18 := dk_seg dksX3_init_17 24 rfl rfl
theorem dksX3_init_19 : cX3_init.data.toList.drop 454 = dktX3_init_19 := dk_seg dksX3_init_18 24 rfl rfl
theorem dksX3_init_20 : cX3_init.data.toList.drop 477 = dktX3_init_20 := dk_seg dksX3_init_19 23 rfl rfl
theorem dksX3_init_21 : cX3_init.data.toList.drop 501 = dktX3_init_21 := dk_seg dksX3_init_20 24 rfl rfl
theorem dksX3_init_22 : cX3_init.data.toList.drop 525 = dktX3_init_22 := dk_seg dksX3_init_21 24 rfl rfl
theorem dksX3_init_23 : cX3_init.data.toList.drop 547 = dktX3_init_23 := dk_seg dksX3_init_22 22 rfl rfl
theorem dksX3_init_24 : cX3_init.data.toList.drop 569 = dktX3_init_24 := dk_seg dksX3_init_23 22 rfl rfl
theorem dX3_init_0 : decode cX3_init 0 = .ok (.aload_n 0, 1) := dk_42 (dk_at dksX3_init_0 0 rfl rfl)
theorem dX3_init_1 : decode cX3_init 1 = .ok (.invokespecial 1, 3) := dk_183 0 1 (dk_at dksX3_init_0 1 rfl rfl)
theorem dX3_init_4 : decode cX3_init 4 = .ok (.aload_n 0, 1) := dk_42 (dk_at dksX3_init_0 4 rfl rfl)
theorem dX3_init_5 : decode cX3_init 5 = .ok (.sipush 348, 3) := dk_17 1 92 (dk_at dksX3_init_0 5 rfl rfl)
theorem dX3_init_8 : decode cX3_init 8 = .ok (.newarray .int, 2) := dk_188_10 (dk_at dksX3_init_0 8 rfl rfl)
theorem dX3_init_10 : decode cX3_init 10 = .ok (.putfield 7, 3) := dk_181 0 7 (dk_at dksX3_init_0 10 rfl rfl)
theorem dX3_init_13 : decode cX3_init 13 = .ok (.aload_n 0, 1) := dk_42 (dk_at dksX3_init_0 13 rfl rfl)
theorem dX3_init_14 : decode cX3_init 14 = .ok (.sipush 4176, 3) := dk_17 16 80 (dk_at dksX3_init_0 14 rfl rfl)
theorem dX3_init_17 : decode cX3_init 17 = .ok (.newarray .int, 2) := dk_188_10 (dk_at dksX3_init_0 17 rfl rfl)
theorem dX3_init_19 : decode cX3_init 19 = .ok (.putfield 13, 3) := dk_181 0 13 (dk_at dksX3_init_0 19 rfl rfl)
theorem dX3_init_22 : decode cX3_init 22 = .ok (.aload_n 0, 1) := dk_42 (dk_at dksX3_init_0 22 rfl rfl)
theorem dX3_init_23 : decode cX3_init 23 = .ok (.bipush 6, 2) := dk_16 6 (dk_at dksX3_init_1 0 rfl rfl)
theorem dX3_init_25 : decode cX3_init 25 = .ok (.putfield 16, 3) := dk_181 0 16 (dk_at dksX3_init_1 2 rfl rfl)
theorem dX3_init_28 : decode cX3_init 28 = .ok (.aload_n 0, 1) := dk_42 (dk_at dksX3_init_1 5 rfl rfl)
theorem dX3_init_29 : decode cX3_init 29 = .ok (.bipush 6, 2) := dk_16 6 (dk_at dksX3_init_1 6 rfl rfl)
theorem dX3_init_31 : decode cX3_init 31 = .ok (.putfield 20, 3) := dk_181 0 20 (dk_at dksX3_init_1 8 rfl rfl)
theorem dX3_init_34 : decode cX3_init 34 = .ok (.aload_n 0, 1) := dk_42 (dk_at dksX3_init_1 11 rfl rfl)
theorem dX3_init_35 : decode cX3_init 35 = .ok (.bipush 64, 2) := dk_16 64 (dk_at dksX3_init_1 12 rfl rfl)
theorem dX3_init_37 : decode cX3_init 37 = .ok (.newarray .int, 2) := dk_188_10 (dk_at dksX3_init_1 14 rfl rfl)
theorem dX3_init_39 : decode cX3_init 39 = .ok (.putfield 23, 3) := dk_181 0 23 (dk_at dksX3_init_1 16 rfl rfl)
theorem dX3_init_42 : decode cX3_init 42 = .ok (.aload_n 0, 1) := dk_42 (dk_at dksX3_init_1 19 rfl rfl)
theorem dX3_init_43 : decode cX3_init 43 = .ok (.bipush 12, 2) := dk_16 12 (dk_at dksX3_init_1 20 rfl rfl)
theorem dX3_init_45 : decode cX3_init 45 = .ok (.newarray .int, 2) := dk_188_10 (dk_at dksX3_init_1 22 rfl rfl)
theorem dX3_init_47 : decode cX3_init 47 = .ok (.putfield 26, 3) := dk_181 0 26 (dk_at dksX3_init_2 0 rfl rfl)
theorem dX3_init_50 : decode cX3_init 50 = .ok (.aload_n 0, 1) := dk_42 (dk_at dksX3_init_2 3 rfl rfl)
theorem dX3_init_51 : decode cX3_init 51 = .ok (.bipush 12, 2) := dk_16 12 (dk_at dksX3_init_2 4 rfl rfl)
theorem dX3_init_53 : decode cX3_init 53 = .ok (.newarray .int, 2) := dk_188_10 (dk_at dksX3_init_2 6 rfl rfl)
theorem dX3_init_55 : decode cX3_init 55 = .ok (.putfield 29, 3) := dk_181 0 29 (dk_at dksX3_init_2 8 rfl rfl)
theorem dX3_init_58 : decode cX3_init 58 = .ok (.aload_n 0, 1) := dk_42 (dk_at dksX3_init_2 11 rfl rfl)
theorem dX3_init_59 : decode cX3_init 59 = .ok (.bipush 12, 2) := dk_16 12 (dk_at dksX3_init_2 12 rfl rfl)
theorem dX3_init_61 : decode cX3_init 61 = .ok (.newarray .int, 2) := dk_188_10 (dk_at dksX3_init_2 14 rfl rfl)
theorem dX3_init_63 : decode cX3_init 63 = .ok (.putfield 32, 3) := dk_181 0 32 (dk_at dksX3_init_2 16 rfl rfl)
theorem dX3_init_66 : decode cX3_init 66 = .ok (.aload_n 0, 1) := dk_42 (dk_at dksX3_init_2 19 rfl rfl)
theorem dX3_init_67 : decode cX3_init 67 = .ok (.sipush 400, 3) := dk_17 1 144 (dk_at dksX3_init_2 20 rfl rfl)
theorem dX3_init_70 : decode cX3_init 70 = .ok (.newarray .int, 2) := dk_188_10 (dk_at dksX3_init_3 0 rfl rfl)
theorem dX3_init_72 : decode cX3_init 72 = .ok (.putfield 35, 3) := dk_181 0 35 (dk_at dksX3_init_3 2 rfl rfl)
theorem dX3_init_75 : decode cX3_init 75 = .ok (.aload_n 0, 1) := dk_42 (dk_at dksX3_init_3 5 rfl rfl)
theorem dX3_init_76 : decode cX3_init 76 = .ok (.sipush 400, 3) := dk_17 1 144 (dk_at dksX3_init_3 6 rfl rfl)
theorem dX3_init_79 : decode cX3_init 79 = .ok (.newarray .int, 2) := dk_188_10 (dk_at dksX3_init_3 9 rfl rfl)
theorem dX3_init_81 : decode cX3_init 81 = .ok (.putfield 38, 3) := dk_181 0 38 (dk_at dksX3_init_3 11 rfl rfl)
theorem dX3_init_84 : decode cX3_init 84 = .ok (.aload_n 0, 1) := dk_42 (dk_at dksX3_init_3 14 rfl rfl)
theorem dX3_init_85 : decode cX3_init 85 = .ok (.bipush 62, 2) := dk_16 62 (dk_at dksX3_init_3 15 rfl rfl)
theorem dX3_init_87 : decode cX3_init 87 = .ok (.newarray .int, 2) := dk_188_10 (dk_at dksX3_init_3 17 rfl rfl)
theorem dX3_init_89 : decode cX3_init 89 = .ok (.dup, 1) := dk_89 (dk_at dksX3_init_3 19 rfl rfl)
theorem dX3_init_90 : decode cX3_init 90 = .ok (.iconst 0, 1) := dk_3 (dk_at dksX3_init_3 20 rfl rfl)
theorem dX3_init_91 : decode cX3_init 91 = .ok (.bipush 32, 2) := dk_16 32 (dk_at dksX3_init_3 21 rfl rfl)
theorem dX3_init_93 : decode cX3_init 93 = .ok (.iastore, 1) := dk_79 (dk_at dksX3_init_3 23 rfl rfl)
theorem dX3_init_94 : decode cX3_init 94 = .ok (.dup, 1) := dk_89 (dk_at dksX3_init_4 0 rfl rfl)
theorem dX3_init_95 : decode cX3_init 95 = .ok (.iconst 1, 1) := dk_4 (dk_at dksX3_init_4 1 rfl rfl)
theorem dX3_init_96 : decode cX3_init 96 = .ok (.bipush 103, 2) := dk_16 103 (dk_at dksX3_init_4 2 rfl rfl)
theorem dX3_init_98 : decode cX3_init 98 = .ok (.iastore, 1) := dk_79 (dk_at dksX3_init_4 4 rfl rfl)
theorem dX3_init_99 : decode cX3_init 99 = .ok (.dup, 1) := dk_89 (dk_at dksX3_init_4 5 rfl rfl)
theorem dX3_init_100 : decode cX3_init 100 = .ok (.iconst 2, 1) := dk_5 (dk_at dksX3_init_4 6 rfl rfl)
theorem dX3_init_101 : decode cX3_init 101 = .ok (.bipush 114, 2) := dk_16 114 (dk_at dksX3_init_4 7 rfl rfl)
theorem dX3_init_103 : decode cX3_init 103 = .ok (.iastore, 1) := dk_79 (dk_at dksX3_init_4 9 rfl rfl)
theorem dX3_init_104 : decode cX3_init 104 = .ok (.dup, 1) := dk_89 (dk_at dksX3_init_4 10 rfl rfl)
theorem dX3_init_105 : decode cX3_init 105 = .ok (.iconst 3, 1) := dk_6 (dk_at dksX3_init_4 11 rfl rfl)
theorem dX3_init_106 : decode cX3_init 106 = .ok (.bipush 111, 2) := dk_16 111 (dk_at dksX3_init_4 12 rfl rfl)
theorem dX3_init_108 : decode cX3_init 108 = .ok (.iastore, 1) := dk_79 (dk_at dksX3_init_4 14 rfl rfl)
theorem dX3_init_109 : decode cX3_init 109 = .ok (.dup, 1) := dk_89 (dk_at dksX3_init_4 15 rfl rfl)
theorem dX3_init_110 : decode cX3_init 110 = .ok (.iconst 4, 1) := dk_7 (dk_at dksX3_init_4 16 rfl rfl)
theorem dX3_init_111 : decode cX3_init 111 = .ok (.bipush 119, 2) := dk_16 119 (dk_at dksX3_init_4 17 rfl rfl)
theorem dX3_init_113 : decode cX3_init 113 = .ok (.iastore, 1) := dk_79 (dk_at dksX3_init_4 19 rfl rfl)
theorem dX3_init_114 : decode cX3_init 114 = .ok (.dup, 1) := dk_89 (dk_at dksX3_init_4 20 rfl rfl)
theorem dX3_init_115 : decode cX3_init 115 = .ok (.iconst 5, 1) := dk_8 (dk_at dksX3_init_4 21 rfl rfl)
theorem dX3_init_116 : decode cX3_init 116 = .ok (.bipush 32, 2) := dk_16 32 (dk_at dksX3_init_4 22 rfl rfl)
theorem dX3_init_118 : decode cX3_init 118 = .ok (.iastore, 1) := dk_79 (dk_at dksX3_init_5 0 rfl rfl)
theorem dX3_init_119 : decode cX3_init 119 = .ok (.dup, 1) := dk_89 (dk_at dksX3_init_5 1 rfl rfl)
theorem dX3_init_120 : decode cX3_init 120 = .ok (.bipush 6, 2) := dk_16 6 (dk_at dksX3_init_5 2 rfl rfl)
theorem dX3_init_122 : decode cX3_init 122 = .ok (.bipush 119, 2) := dk_16 119 (dk_at dksX3_init_5 4 rfl rfl)
theorem dX3_init_124 : decode cX3_init 124 = .ok (.iastore, 1) := dk_79 (dk_at dksX3_init_5 6 rfl rfl)
theorem dX3_init_125 : decode cX3_init 125 = .ok (.dup, 1) := dk_89 (dk_at dksX3_init_5 7 rfl rfl)
theorem dX3_init_126 : decode cX3_init 126 = .ok (.bipush 7, 2) := dk_16 7 (dk_at dksX3_init_5 8 rfl rfl)
theorem dX3_init_128 : decode cX3_init 128 = .ok (.bipush 104, 2) := dk_16 104 (dk_at dksX3_init_5 10 rfl rfl)
theorem dX3_init_130 : decode cX3_init 130 = .ok (.iastore, 1) := dk_79 (dk_at dksX3_init_5 12 rfl rfl)
theorem dX3_init_131 : decode cX3_init 131 = .ok (.dup, 1) := dk_89 (dk_at dksX3_init_5 13 rfl rfl)
theorem dX3_init_132 : decode cX3_init 132 = .ok (.bipush 8, 2) := dk_16 8 (dk_at dksX3_init_5 14 rfl rfl)
theorem dX3_init_134 : decode cX3_init 134 = .ok (.bipush 101, 2) := dk_16 101 (dk_at dksX3_init_5 16 rfl rfl)
theorem dX3_init_136 : decode cX3_init 136 = .ok (.iastore, 1) := dk_79 (dk_at dksX3_init_5 18 rfl rfl)
theorem dX3_init_137 : decode cX3_init 137 = .ok (.dup, 1) := dk_89 (dk_at dksX3_init_5 19 rfl rfl)
theorem dX3_init_138 : decode cX3_init 138 = .ok (.bipush 9, 2) := dk_16 9 (dk_at dksX3_init_5 20 rfl rfl)
theorem dX3_init_140 : decode cX3_init 140 = .ok (.bipush 110, 2) := dk_16 110 (dk_at dksX3_init_5 22 rfl rfl)
theorem dX3_init_142 : decode cX3_init 142 = .ok (.iastore, 1) := dk_79 (dk_at dksX3_init_6 0 rfl rfl)
theorem dX3_init_143 : decode cX3_init 143 = .ok (.dup, 1) := dk_89 (dk_at dksX3_init_6 1 rfl rfl)
theorem dX3_init_144 : decode cX3_init 144 = .ok (.bipush 10, 2) := dk_16 10 (dk_at dksX3_init_6 2 rfl rfl)
theorem dX3_init_146 : decode cX3_init 146 = .ok (.bipush 32, 2) := dk_16 32 (dk_at dksX3_init_6 4 rfl rfl)
theorem dX3_init_148 : decode cX3_init 148 = .ok (.iastore, 1) := dk_79 (dk_at dksX3_init_6 6 rfl rfl)
theorem dX3_init_149 : decode cX3_init 149 = .ok (.dup, 1) := dk_89 (dk_at dksX3_init_6 7 rfl rfl)
theorem dX3_init_150 : decode cX3_init 150 = .ok (.bipush 11, 2) := dk_16 11 (dk_at dksX3_init_6 8 rfl rfl)
theorem dX3_init_152 : decode cX3_init 152 = .ok (.bipush 111, 2) := dk_16 111 (dk_at dksX3_init_6 10 rfl rfl)
theorem dX3_init_154 : decode cX3_init 154 = .ok (.iastore, 1) := dk_79 (dk_at dksX3_init_6 12 rfl rfl)
theorem dX3_init_155 : decode cX3_init 155 = .ok (.dup, 1) := dk_89 (dk_at dksX3_init_6 13 rfl rfl)
theorem dX3_init_156 : decode cX3_init 156 = .ok (.bipush 12, 2) := dk_16 12 (dk_at dksX3_init_6 14 rfl rfl)
theorem dX3_init_158 : decode cX3_init 158 = .ok (.bipush 114, 2) := dk_16 114 (dk_at dksX3_init_6 16 rfl rfl)
theorem dX3_init_160 : decode cX3_init 160 = .ok (.iastore, 1) := dk_79 (dk_at dksX3_init_6 18 rfl rfl)
theorem dX3_init_161 : decode cX3_init 161 = .ok (.dup, 1) := dk_89 (dk_at dksX3_init_6 19 rfl rfl)
theorem dX3_init_162 : decode cX3_init 162 = .ok (.bipush 13, 2) := dk_16 13 (dk_at dksX3_init_6 20 rfl rfl)
theorem dX3_init_164 : decode cX3_init 164 = .ok (.bipush 32, 2) := dk_16 32 (dk_at dksX3_init_6 22 rfl rfl)
theorem dX3_init_166 : decode cX3_init 166 = .ok (.iastore, 1) := dk_79 (dk_at dksX3_init_7 0 rfl rfl)
theorem dX3_init_167 : decode cX3_init 167 = .ok (.dup, 1) := dk_89 (dk_at dksX3_init_7 1 rfl rfl)
theorem dX3_init_168 : decode cX3_init 168 = .ok (.bipush 14, 2) := dk_16 14 (dk_at dksX3_init_7 2 rfl rfl)
theorem dX3_init_170 : decode cX3_init 170 = .ok (.bipush 97, 2) := dk_16 97 (dk_at dksX3_init_7 4 rfl rfl)
theorem dX3_init_172 : decode cX3_init 172 = .ok (.iastore, 1) := dk_79 (dk_at dksX3_init_7 6 rfl rfl)
theorem dX3_init_173 : decode cX3_init 173 = .ok (.dup, 1) := dk_89 (dk_at dksX3_init_7 7 rfl rfl)
theorem dX3_init_174 : decode cX3_init 174 = .ok (.bipush 15, 2) := dk_16 15 (dk_at dksX3_init_7 8 rfl rfl)
theorem dX3_init_176 : decode cX3_init 176 = .ok (.bipush 110, 2) := dk_16 110 (dk_at dksX3_init_7 10 rfl rfl)
theorem dX3_init_178 : decode cX3_init 178 = .ok (.iastore, 1) := dk_79 (dk_at dksX3_init_7 12 rfl rfl)
theorem dX3_init_179 : decode cX3_init 179 = .ok (.dup, 1) := dk_89 (dk_at dksX3_init_7 13 rfl rfl)
theorem dX3_init_180 : decode cX3_init 180 = .ok (.bipush 16, 2) := dk_16 16 (dk_at dksX3_init_7 14 rfl rfl)
theorem dX3_init_182 : decode cX3_init 182 = .ok (.bipush 100, 2) := dk_16 100 (dk_at dksX3_init_7 16 rfl rfl)
theorem dX3_init_184 : decode cX3_init 184 = .ok (.iastore, 1) := dk_79 (dk_at dksX3_init_7 18 rfl rfl)
theorem dX3_init_185 : decode cX3_init 185 = .ok (.dup, 1) := dk_89 (dk_at dksX3_init_7 19 rfl rfl)
theorem dX3_init_186 : decode cX3_init 186 = .ok (.bipush 17, 2) := dk_16 17 (dk_at dksX3_init_7 20 rfl rfl)
theorem dX3_init_188 : decode cX3_init 188 = .ok (.bipush 32, 2) := dk_16 32 (dk_at dksX3_init_7 22 rfl rfl)
theorem dX3_init_190 : decode cX3_init 190 = .ok (.iastore, 1) := dk_79 (dk_at dksX3_init_8 0 rfl rfl)
theorem dX3_init_191 : decode cX3_init 191 = .ok (.dup, 1) := dk_89 (dk_at dksX3_init_8 1 rfl rfl)
theorem dX3_init_192 : decode cX3_init 192 = .ok (.bipush 18, 2) := dk_16 18 (dk_at dksX3_init_8 2 rfl rfl)
theorem dX3_init_194 : decode cX3_init 194 = .ok (.bipush 110, 2) := dk_16 110 (dk_at dksX3_init_8 4 rfl rfl)
theorem dX3_init_196 : decode cX3_init 196 = .ok (.iastore, 1) := dk_79 (dk_at dksX3_init_8 6 rfl rfl)
theorem dX3_init_197 : decode cX3_init 197 = .ok (.dup, 1) := dk_89 (dk_at dksX3_init_8 7 rfl rfl)
theorem dX3_init_198 : decode cX3_init 198 = .ok (.bipush 19, 2) := dk_16 19 (dk_at dksX3_init_8 8 rfl rfl)
theorem dX3_init_200 : decode cX3_init 200 = .ok (.bipush 111, 2) := dk_16 111 (dk_at dksX3_init_8 10 rfl rfl)
theorem dX3_init_202 : decode cX3_init 202 = .ok (.iastore, 1) := dk_79 (dk_at dksX3_init_8 12 rfl rfl)
theorem dX3_init_203 : decode cX3_init 203 = .ok (.dup, 1) := dk_89 (dk_at dksX3_init_8 13 rfl rfl)
theorem dX3_init_204 : decode cX3_init 204 = .ok (.bipush 20, 2) := dk_16 20 (dk_at dksX3_init_8 14 rfl rfl)
theorem dX3_init_206 : decode cX3_init 206 = .ok (.bipush 116, 2) := dk_16 116 (dk_at dksX3_init_8 16 rfl rfl)
theorem dX3_init_208 : decode cX3_init 208 = .ok (.iastore, 1) := dk_79 (dk_at dksX3_init_8 18 rfl rfl)
theorem dX3_init_209 : decode cX3_init 209 = .ok (.dup, 1) := dk_89 (dk_at dksX3_init_8 19 rfl rfl)
theorem dX3_init_210 : decode cX3_init 210 = .ok (.bipush 21, 2) := dk_16 21 (dk_at dksX3_init_8 20 rfl rfl)
theorem dX3_init_212 : decode cX3_init 212 = .ok (.bipush 32, 2) := dk_16 32 (dk_at dksX3_init_8 22 rfl rfl)
theorem dX3_init_214 : decode cX3_init 214 = .ok (.iastore, 1) := dk_79 (dk_at dksX3_init_9 0 rfl rfl)
theorem dX3_init_215 : decode cX3_init 215 = .ok (.dup, 1) := dk_89 (dk_at dksX3_init_9 1 rfl rfl)
theorem dX3_init_216 : decode cX3_init 216 = .ok (.bipush 22, 2) := dk_16 22 (dk_at dksX3_init_9 2 rfl rfl)
theorem dX3_init_218 : decode cX3_init 218 = .ok (.bipush 119, 2) := dk_16 119 (dk_at dksX3_init_9 4 rfl rfl)
theorem dX3_init_220 : decode cX3_init 220 = .ok (.iastore, 1) := dk_79 (dk_at dksX3_init_9 6 rfl rfl)
theorem dX3_init_221 : decode cX3_init 221 = .ok (.dup, 1) := dk_89 (dk_at dksX3_init_9 7 rfl rfl)
theorem dX3_init_222 : decode cX3_init 222 = .ok (.bipush 23, 2) := dk_16 23 (dk_at dksX3_init_9 8 rfl rfl)
theorem dX3_init_224 : decode cX3_init 224 = .ok (.bipush 111, 2) := dk_16 111 (dk_at dksX3_init_9 10 rfl rfl)
theorem dX3_init_226 : decode cX3_init 226 = .ok (.iastore, 1) := dk_79 (dk_at dksX3_init_9 12 rfl rfl)
theorem dX3_init_227 : decode cX3_init 227 = .ok (.dup, 1) := dk_89 (dk_at dksX3_init_9 13 rfl rfl)
theorem dX3_init_228 : decode cX3_init 228 = .ok (.bipush 24, 2) := dk_16 24 (dk_at dksX3_init_9 14 rfl rfl)
theorem dX3_init_230 : decode cX3_init 230 = .ok (.bipush 114, 2) := dk_16 114 (dk_at dksX3_init_9 16 rfl rfl)
theorem dX3_init_232 : decode cX3_init 232 = .ok (.iastore, 1) := dk_79 (dk_at dksX3_init_9 18 rfl rfl)
theorem dX3_init_233 : decode cX3_init 233 = .ok (.dup, 1) := dk_89 (dk_at dksX3_init_9 19 rfl rfl)
theorem dX3_init_234 : decode cX3_init 234 = .ok (.bipush 25, 2) := dk_16 25 (dk_at dksX3_init_9 20 rfl rfl)
theorem dX3_init_236 : decode cX3_init 236 = .ok (.bipush 100, 2) := dk_16 100 (dk_at dksX3_init_9 22 rfl rfl)
theorem dX3_init_238 : decode cX3_init 238 = .ok (.iastore, 1) := dk_79 (dk_at dksX3_init_10 0 rfl rfl)
theorem dX3_init_239 : decode cX3_init 239 = .ok (.dup, 1) := dk_89 (dk_at dksX3_init_10 1 rfl rfl)
theorem dX3_init_240 : decode cX3_init 240 = .ok (.bipush 26, 2) := dk_16 26 (dk_at dksX3_init_10 2 rfl rfl)
theorem dX3_init_242 : decode cX3_init 242 = .ok (.bipush 32, 2) := dk_16 32 (dk_at dksX3_init_10 4 rfl rfl)
theorem dX3_init_244 : decode cX3_init 244 = .ok (.iastore, 1) := dk_79 (dk_at dksX3_init_10 6 rfl rfl)
theorem dX3_init_245 : decode cX3_init 245 = .ok (.dup, 1) := dk_89 (dk_at dksX3_init_10 7 rfl rfl)
theorem dX3_init_246 : decode cX3_init 246 = .ok (.bipush 27, 2) := dk_16 27 (dk_at dksX3_init_10 8 rfl rfl)
theorem dX3_init_248 : decode cX3_init 248 = .ok (.bipush 115, 2) := dk_16 115 (dk_at dksX3_init_10 10 rfl rfl)
theorem dX3_init_250 : decode cX3_init 250 = .ok (.iastore, 1) := dk_79 (dk_at dksX3_init_10 12 rfl rfl)
theorem dX3_init_251 : decode cX3_init 251 = .ok (.dup, 1) := dk_89 (dk_at dksX3_init_10 13 rfl rfl)
theorem dX3_init_252 : decode cX3_init 252 = .ok (.bipush 28, 2) := dk_16 28 (dk_at dksX3_init_10 14 rfl rfl)
theorem dX3_init_254 : decode cX3_init 254 = .ok (.bipush 105, 2) := dk_16 105 (dk_at dksX3_init_10 16 rfl rfl)
theorem dX3_init_256 : decode cX3_init 256 = .ok (.iastore, 1) := dk_79 (dk_at dksX3_init_10 18 rfl rfl)
theorem dX3_init_257 : decode cX3_init 257 = .ok (.dup, 1) := dk_89 (dk_at dksX3_init_10 19 rfl rfl)
theorem dX3_init_258 : decode cX3_init 258 = .ok (.bipush 29, 2) := dk_16 29 (dk_at dksX3_init_10 20 rfl rfl)
theorem dX3_init_260 : decode cX3_init 260 = .ok (.bipush 122, 2) := dk_16 122 (dk_at dksX3_init_10 22 rfl rfl)
theorem dX3_init_262 : decode cX3_init 262 = .ok (.iastore, 1) := dk_79 (dk_at dksX3_init_11 0 rfl rfl)
theorem dX3_init_263 : decode cX3_init 263 = .ok (.dup, 1) := dk_89 (dk_at dksX3_init_11 1 rfl rfl)
theorem dX3_init_264 : decode cX3_init 264 = .ok (.bipush 30, 2) := dk_16 30 (dk_at dksX3_init_11 2 rfl rfl)
theorem dX3_init_266 : decode cX3_init 266 = .ok (.bipush 101, 2) := dk_16 101 (dk_at dksX3_init_11 4 rfl rfl)
theorem dX3_init_268 : decode cX3_init 268 = .ok (.iastore, 1) := dk_79 (dk_at dksX3_init_11 6 rfl rfl)
theorem dX3_init_269 : decode cX3_init 269 = .ok (.dup, 1) := dk_89 (dk_at dksX3_init_11 7 rfl rfl)
theorem dX3_init_270 : decode cX3_init 270 = .ok (.bipush 31, 2) := dk_16 31 (dk_at dksX3_init_11 8 rfl rfl)
theorem dX3_init_272 : decode cX3_init 272 = .ok (.bipush 32, 2) := dk_16 32 (dk_at dksX3_init_11 10 rfl rfl)
theorem dX3_init_274 : decode cX3_init 274 = .ok (.iastore, 1) := dk_79 (dk_at dksX3_init_11 12 rfl rfl)
theorem dX3_init_275 : decode cX3_init 275 = .ok (.dup, 1) := dk_89 (dk_at dksX3_init_11 13 rfl rfl)
theorem dX3_init_276 : decode cX3_init 276 = .ok (.bipush 32, 2) := dk_16 32 (dk_at dksX3_init_11 14 rfl rfl)
theorem dX3_init_278 : decode cX3_init 278 = .ok (.bipush 97, 2) := dk_16 97 (dk_at dksX3_init_11 16 rfl rfl)
theorem dX3_init_280 : decode cX3_init 280 = .ok (.iastore, 1) := dk_79 (dk_at dksX3_init_11 18 rfl rfl)
theorem dX3_init_281 : decode cX3_init 281 = .ok (.dup, 1) := dk_89 (dk_at dksX3_init_11 19 rfl rfl)
theorem dX3_init_282 : decode cX3_init 282 = .ok (.bipush 33, 2) := dk_16 33 (dk_at dksX3_init_11 20 rfl rfl)
theorem dX3_init_284 : decode cX3_init 284 = .ok (.bipush 103, 2) := dk_16 103 (dk_at dksX3_init_11 22 rfl rfl)
theorem dX3_init_286 : decode cX3_init 286 = .ok (.iastore, 1) := dk_79 (dk_at dksX3_init_12 0 rfl rfl)
theorem dX3_init_287 : decode cX3_init 287 = .ok (.dup, 1) := dk_89 (dk_at dksX3_init_12 1 rfl rfl)
theorem dX3_init_288 : decode cX3_init 288 = .ok (.bipush 34, 2) := dk_16 34 (dk_at dksX3_init_12 2 rfl rfl)
theorem dX3_init_290 : decode cX3_init 290 = .ok (.bipush 101, 2) := dk_16 101 (dk_at dksX3_init_12 4 rfl rfl)
theorem dX3_init_292 : decode cX3_init 292 = .ok (.iastore, 1) := dk_79 (dk_at dksX3_init_12 6 rfl rfl)
theorem dX3_init_293 : decode cX3_init 293 = .ok (.dup, 1) := dk_89 (dk_at dksX3_init_12 7 rfl rfl)
theorem dX3_init_294 : decode cX3_init 294 = .ok (.bipush 35, 2) := dk_16 35 (dk_at dksX3_init_12 8 rfl rfl)
theorem dX3_init_296 : decode cX3_init 296 = .ok (.bipush 32, 2) := dk_16 32 (dk_at dksX3_init_12 10 rfl rfl)
theorem dX3_init_298 : decode cX3_init 298 = .ok (.iastore, 1) := dk_79 (dk_at dksX3_init_12 12 rfl rfl)
theorem dX3_init_299 : decode cX3_init 299 = .ok (.dup, 1) := dk_89 (dk_at dksX3_init_12 13 rfl rfl)
theorem dX3_init_300 : decode cX3_init 300 = .ok (.bipush 36, 2) := dk_16 36 (dk_at dksX3_init_12 14 rfl rfl)
theorem dX3_init_302 : decode cX3_init 302 = .ok (.bipush 100, 2) := dk_16 100 (dk_at dksX3_init_12 16 rfl rfl)
theorem dX3_init_304 : decode cX3_init 304 = .ok (.iastore, 1) := dk_79 (dk_at dksX3_init_12 18 rfl rfl)
theorem dX3_init_305 : decode cX3_init 305 = .ok (.dup, 1) := dk_89 (dk_at dksX3_init_12 19 rfl rfl)
theorem dX3_init_306 : decode cX3_init 306 = .ok (.bipush 37, 2) := dk_16 37 (dk_at dksX3_init_12 20 rfl rfl)
theorem dX3_init_308 : decode cX3_init 308 = .ok (.bipush 97, 2) := dk_16 97 (dk_at dksX3_init_12 22 rfl rfl)
theorem dX3_init_310 : decode cX3_init 310 = .ok (.iastore, 1) := dk_79 (dk_at dksX3_init_13 0 rfl rfl)
theorem dX3_init_311 : decode cX3_init 311 = .ok (.dup, 1) := dk_89 (dk_at dksX3_init_13 1 rfl rfl)
theorem dX3_init_312 : decode cX3_init 312 = .ok (.bipush 38, 2) := dk_16 38 (dk_at dksX3_init_13 2 rfl rfl)
theorem dX3_init_314 : decode cX3_init 314 = .ok (.bipush 109, 2) := dk_16 109 (dk_at dksX3_init_13 4 rfl rfl)
theorem dX3_init_316 : decode cX3_init 316 = .ok (.iastore, 1) := dk_79 (dk_at dksX3_init_13 6 rfl rfl)
theorem dX3_init_317 : decode cX3_init 317 = .ok (.dup, 1) := dk_89 (dk_at dksX3_init_13 7 rfl rfl)
theorem dX3_init_318 : decode cX3_init 318 = .ok (.bipush 39, 2) := dk_16 39 (dk_at dksX3_init_13 8 rfl rfl)
theorem dX3_init_320 : decode cX3_init 320 = .ok (.bipush 112, 2) := dk_16 112 (dk_at dksX3_init_13 10 rfl rfl)
theorem dX3_init_322 : decode cX3_init 322 = .ok (.iastore, 1) := dk_79 (dk_at dksX3_init_13 12 rfl rfl)
theorem dX3_init_323 : decode cX3_init 323 = .ok (.dup, 1) := dk_89 (dk_at dksX3_init_13 13 rfl rfl)
theorem dX3_init_324 : decode cX3_init 324 = .ok (.bipush 40, 2) := dk_16 40 (dk_at dksX3_init_13 14 rfl rfl)
theorem dX3_init_326 : decode cX3_init 326 = .ok (.bipush 32, 2) := dk_16 32 (dk_at dksX3_init_13 16 rfl rfl)
theorem dX3_init_328 : decode cX3_init 328 = .ok (.iastore, 1) := dk_79 (dk_at dksX3_init_13 18 rfl rfl)
theorem dX3_init_329 : decode cX3_init 329 = .ok (.dup, 1) := dk_89 (dk_at dksX3_init_13 19 rfl rfl)
theorem dX3_init_330 : decode cX3_init 330 = .ok (.bipush 41, 2) := dk_16 41 (dk_at dksX3_init_13 20 rfl rfl)
theorem dX3_init_332 : decode cX3_init 332 = .ok (.bipush 110, 2) := dk_16 110 (dk_at dksX3_init_13 22 rfl rfl)
theorem dX3_init_334 : decode cX3_init 334 = .ok (.iastore, 1) := dk_79 (dk_at dksX3_init_14 0 rfl rfl)
theorem dX3_init_335 : decode cX3_init 335 = .ok (.dup, 1) := dk_89 (dk_at dksX3_init_14 1 rfl rfl)
theorem dX3_init_336 : decode cX3_init 336 = .ok (.bipush 42, 2) := dk_16 42 (dk_at dksX3_init_14 2 rfl rfl)
theorem dX3_init_338 : decode cX3_init 338 = .ok (.bipush 101, 2) := dk_16 101 (dk_at dksX3_init_14 4 rfl rfl)
theorem dX3_init_340 : decode cX3_init 340 = .ok (.iastore, 1) := dk_79 (dk_at dksX3_init_14 6 rfl rfl)
theorem dX3_init_341 : decode cX3_init 341 = .ok (.dup, 1) := dk_89 (dk_at dksX3_init_14 7 rfl rfl)
theorem dX3_init_342 : decode cX3_init 342 = .ok (.bipush 43, 2) := dk_16 43 (dk_at dksX3_init_14 8 rfl rfl)
theorem dX3_init_344 : decode cX3_init 344 = .ok (.bipush 97, 2) := dk_16 97 (dk_at dksX3_init_14 10 rfl rfl)
theorem dX3_init_346 : decode cX3_init 346 = .ok (.iastore, 1) := dk_79 (dk_at dksX3_init_14 12 rfl rfl)
theorem dX3_init_347 : decode cX3_init 347 = .ok (.dup, 1) := dk_89 (dk_at dksX3_init_14 13 rfl rfl)
theorem dX3_init_348 : decode cX3_init 348 = .ok (.bipush 44, 2) := dk_16 44 (dk_at dksX3_init_14 14 rfl rfl)
theorem dX3_init_350 : decode cX3_init 350 = .ok (.bipush 114, 2) := dk_16 114 (dk_at dksX3_init_14 16 rfl rfl)
theorem dX3_init_352 : decode cX3_init 352 = .ok (.iastore, 1) := dk_79 (dk_at dksX3_init_14 18 rfl rfl)
theorem dX3_init_353 : decode cX3_init 353 = .ok (.dup, 1) := dk_89 (dk_at dksX3_init_14 19 rfl rfl)
theorem dX3_init_354 : decode cX3_init 354 = .ok (.bipush 45, 2) := dk_16 45 (dk_at dksX3_init_14 20 rfl rfl)
theorem dX3_init_356 : decode cX3_init 356 = .ok (.bipush 32, 2) := dk_16 32 (dk_at dksX3_init_14 22 rfl rfl)
theorem dX3_init_358 : decode cX3_init 358 = .ok (.iastore, 1) := dk_79 (dk_at dksX3_init_15 0 rfl rfl)
theorem dX3_init_359 : decode cX3_init 359 = .ok (.dup, 1) := dk_89 (dk_at dksX3_init_15 1 rfl rfl)
theorem dX3_init_360 : decode cX3_init 360 = .ok (.bipush 46, 2) := dk_16 46 (dk_at dksX3_init_15 2 rfl rfl)
theorem dX3_init_362 : decode cX3_init 362 = .ok (.bipush 108, 2) := dk_16 108 (dk_at dksX3_init_15 4 rfl rfl)
theorem dX3_init_364 : decode cX3_init 364 = .ok (.iastore, 1) := dk_79 (dk_at dksX3_init_15 6 rfl rfl)
theorem dX3_init_365 : decode cX3_init 365 = .ok (.dup, 1) := dk_89 (dk_at dksX3_init_15 7 rfl rfl)
theorem dX3_init_366 : decode cX3_init 366 = .ok (.bipush 47, 2) := dk_16 47 (dk_at dksX3_init_15 8 rfl rfl)
theorem dX3_init_368 : decode cX3_init 368 = .ok (.bipush 105, 2) := dk_16 105 (dk_at dksX3_init_15 10 rfl rfl)
theorem dX3_init_370 : decode cX3_init 370 = .ok (.iastore, 1) := dk_79 (dk_at dksX3_init_15 12 rfl rfl)
theorem dX3_init_371 : decode cX3_init 371 = .ok (.dup, 1) := dk_89 (dk_at dksX3_init_15 13 rfl rfl)
theorem dX3_init_372 : decode cX3_init 372 = .ok (.bipush 48, 2) := dk_16 48 (dk_at dksX3_init_15 14 rfl rfl)
theorem dX3_init_374 : decode cX3_init 374 = .ok (.bipush 107, 2) := dk_16 107 (dk_at dksX3_init_15 16 rfl rfl)
theorem dX3_init_376 : decode cX3_init 376 = .ok (.iastore, 1) := dk_79 (dk_at dksX3_init_15 18 rfl rfl)
theorem dX3_init_377 : decode cX3_init 377 = .ok (.dup, 1) := dk_89 (dk_at dksX3_init_15 19 rfl rfl)
theorem dX3_init_378 : decode cX3_init 378 = .ok (.bipush 49, 2) := dk_16 49 (dk_at dksX3_init_15 20 rfl rfl)
theorem dX3_init_380 : decode cX3_init 380 = .ok (.bipush 101, 2) := dk_16 101 (dk_at dksX3_init_15 22 rfl rfl)
theorem dX3_init_382 : decode cX3_init 382 = .ok (.iastore, 1) := dk_79 (dk_at dksX3_init_16 0 rfl rfl)
theorem dX3_init_383 : decode cX3_init 383 = .ok (.dup, 1) := dk_89 (dk_at dksX3_init_16 1 rfl rfl)
theorem dX3_init_384 : decode cX3_init 384 = .ok (.bipush 50, 2) := dk_16 50 (dk_at dksX3_init_16 2 rfl rfl)
theorem dX3_init_386 : decode cX3_init 386 = .ok (.bipush 32, 2) := dk_16 32 (dk_at dksX3_init_16 4 rfl rfl)
theorem dX3_init_388 : decode cX3_init 388 = .ok (.iastore, 1) := dk_79 (dk_at dksX3_init_16 6 rfl rfl)
theorem dX3_init_389 : decode cX3_init 389 = .ok (.dup, 1) := dk_89 (dk_at dksX3_init_16 7 rfl rfl)
theorem dX3_init_390 : decode cX3_init 390 = .ok (.bipush 51, 2) := dk_16 51 (dk_at dksX3_init_16 8 rfl rfl)
theorem dX3_init_392 : decode cX3_init 392 = .ok (.bipush 120, 2) := dk_16 120 (dk_at dksX3_init_16 10 rfl rfl)
theorem dX3_init_394 : decode cX3_init 394 = .ok (.iastore, 1) := dk_79 (dk_at dksX3_init_16 12 rfl rfl)
theorem dX3_init_395 : decode cX3_init 395 = .ok (.dup, 1) := dk_89 (dk_at dksX3_init_16 13 rfl rfl)
theorem dX3_init_396 : decode cX3_init 396 = .ok (.bipush 52, 2) := dk_16 52 (dk_at dksX3_init_16 14 rfl rfl)
theorem dX3_init_398 : decode cX3_init 398 = .ok (.bipush 32, 2) := dk_16 32 (dk_at dksX3_init_16 16 rfl rfl)
theorem dX3_init_400 : decode cX3_init 400 = .ok (.iastore, 1) := dk_79 (dk_at dksX3_init_16 18 rfl rfl)
theorem dX3_init_401 : decode cX3_init 401 = .ok (.dup, 1) := dk_89 (dk_at dksX3_init_16 19 rfl rfl)
theorem dX3_init_402 : decode cX3_init 402 = .ok (.bipush 53, 2) := dk_16 53 (dk_at dksX3_init_16 20 rfl rfl)
theorem dX3_init_404 : decode cX3_init 404 = .ok (.bipush 121, 2) := dk_16 121 (dk_at dksX3_init_16 22 rfl rfl)
theorem dX3_init_406 : decode cX3_init 406 = .ok (.iastore, 1) := dk_79 (dk_at dksX3_init_17 0 rfl rfl)
theorem dX3_init_407 : decode cX3_init 407 = .ok (.dup, 1) := dk_89 (dk_at dksX3_init_17 1 rfl rfl)
theorem dX3_init_408 : decode cX3_init 408 = .ok (.bipush 54, 2) := dk_16 54 (dk_at dksX3_init_17 2 rfl rfl)
theorem dX3_init_410 : decode cX3_init 410 = .ok (.bipush 32, 2) := dk_16 32 (dk_at dksX3_init_17 4 rfl rfl)
theorem dX3_init_412 : decode cX3_init 412 = .ok (.iastore, 1) := dk_79 (dk_at dksX3_init_17 6 rfl rfl)
theorem dX3_init_413 : decode cX3_init 413 = .ok (.dup, 1) := dk_89 (dk_at dksX3_init_17 7 rfl rfl)
theorem dX3_init_414 : decode cX3_init 414 = .ok (.bipush 55, 2) := dk_16 55 (dk_at dksX3_init_17 8 rfl rfl)
theorem dX3_init_416 : decode cX3_init 416 = .ok (.bipush 102, 2) := dk_16 102 (dk_at dksX3_init_17 10 rfl rfl)
theorem dX3_init_418 : decode cX3_init 418 = .ok (.iastore, 1) := dk_79 (dk_at dksX3_init_17 12 rfl rfl)
theorem dX3_init_419 : decode cX3_init 419 = .ok (.dup, 1) := dk_89 (dk_at dksX3_init_17 13 rfl rfl)
theorem dX3_init_420 : decode cX3_init 420 = .ok (.bipush 56, 2) := dk_16 56 (dk_at dksX3_init_17 14 rfl rfl)
theorem dX3_init_422 : decode cX3_init 422 = .ok (.bipush 114, 2) := dk_16 114 (dk_at dksX3_init_17 16 rfl rfl)
theorem dX3_init_424 : decode cX3_init 424 = .ok (.iastore, 1) := dk_79 (dk_at dksX3_init_17 18 rfl rfl)
theorem dX3_init_425 : decode cX3_init 425 = .ok (.dup, 1) := dk_89 (dk_at dksX3_init_17 19 rfl rfl)
theorem dX3_init_426 : decode cX3_init 426 = .ok (.bipush 57, 2) := dk_16 57 (dk_at dksX3_init_17 20 rfl rfl)
theorem dX3_init_428 : decode cX3_init 428 = .ok (.bipush 111, 2) := dk_16 111 (dk_at dksX3_init_17 22 rfl rfl)
theorem dX3_init_430 : decode cX3_init 430 = .ok (.iastore, 1) := dk_79 (dk_at dksX3_init_18 0 rfl rfl)
theorem dX3_init_431 : decode cX3_init 431 = .ok (.dup, 1) := dk_89 (dk_at dksX3_init_18 1 rfl rfl)
theorem dX3_init_432 : decode cX3_init 432 = .ok (.bipush 58, 2) := dk_16 58 (dk_at dksX3_init_18 2 rfl rfl)
theorem dX3_init_434 : decode cX3_init 434 = .ok (.bipush 122, 2) := dk_16 122 (dk_at dksX3_init_18 4 rfl rfl)
theorem dX3_init_436 : decode cX3_init 436 = .ok (.iastore, 1) := dk_79 (dk_at dksX3_init_18 6 rfl rfl)
theorem dX3_init_437 : decode cX3_init 437 = .ok (.dup, 1) := dk_89 (dk_at dksX3_init_18 7 rfl rfl)
theorem dX3_init_438 : decode cX3_init 438 = .ok (.bipush 59, 2) := dk_16 59 (dk_at dksX3_init_18 8 rfl rfl)
theorem dX3_init_440 : decode cX3_init 440 = .ok (.bipush 101, 2) := dk_16 101 (dk_at dksX3_init_18 10 rfl rfl)
theorem dX3_init_442 : decode cX3_init 442 = .ok (.iastore, 1) := dk_79 (dk_at dksX3_init_18 12 rfl rfl)
theorem dX3_init_443 : decode cX3_init 443 = .ok (.dup, 1) := dk_89 (dk_at dksX3_init_18 13 rfl rfl)
theorem dX3_init_444 : decode cX3_init 444 = .ok (.bipush 60, 2) := dk_16 60 (dk_at dksX3_init_18 14 rfl rfl)
theorem dX3_init_446 : decode cX3_init 446 = .ok (.bipush 110, 2) := dk_16 110 (dk_at dksX3_init_18 16 rfl rfl)
theorem dX3_init_448 : decode cX3_init 448 = .ok (.iastore, 1) := dk_79 (dk_at dksX3_init_18 18 rfl rfl)
theorem dX3_init_449 : decode cX3_init 449 = .ok (.dup, 1) := dk_89 (dk_at dksX3_init_18 19 rfl rfl)
theorem dX3_init_450 : decode cX3_init 450 = .ok (.bipush 61, 2) := dk_16 61 (dk_at dksX3_init_18 20 rfl rfl)
theorem dX3_init_452 : decode cX3_init 452 = .ok (.bipush 32, 2) := dk_16 32 (dk_at dksX3_init_18 22 rfl rfl)
theorem dX3_init_454 : decode cX3_init 454 = .ok (.iastore, 1) := dk_79 (dk_at dksX3_init_19 0 rfl rfl)
theorem dX3_init_455 : decode cX3_init 455 = .ok (.putfield 41, 3) := dk_181 0 41 (dk_at dksX3_init_19 1 rfl rfl)
theorem dX3_init_458 : decode cX3_init 458 = .ok (.aload_n 0, 1) := dk_42 (dk_at dksX3_init_19 4 rfl rfl)
theorem dX3_init_459 : decode cX3_init 459 = .ok (.bipush 32, 2) := dk_16 32 (dk_at dksX3_init_19 5 rfl rfl)
theorem dX3_init_461 : decode cX3_init 461 = .ok (.newarray .int, 2) := dk_188_10 (dk_at dksX3_init_19 7 rfl rfl)
theorem dX3_init_463 : decode cX3_init 463 = .ok (.putfield 44, 3) := dk_181 0 44 (dk_at dksX3_init_19 9 rfl rfl)
theorem dX3_init_466 : decode cX3_init 466 = .ok (.aload_n 0, 1) := dk_42 (dk_at dksX3_init_19 12 rfl rfl)
theorem dX3_init_467 : decode cX3_init 467 = .ok (.bipush 32, 2) := dk_16 32 (dk_at dksX3_init_19 13 rfl rfl)
theorem dX3_init_469 : decode cX3_init 469 = .ok (.newarray .int, 2) := dk_188_10 (dk_at dksX3_init_19 15 rfl rfl)
theorem dX3_init_471 : decode cX3_init 471 = .ok (.putfield 47, 3) := dk_181 0 47 (dk_at dksX3_init_19 17 rfl rfl)
theorem dX3_init_474 : decode cX3_init 474 = .ok (.aload_n 0, 1) := dk_42 (dk_at dksX3_init_19 20 rfl rfl)
theorem dX3_init_475 : decode cX3_init 475 = .ok (.bipush 32, 2) := dk_16 32 (dk_at dksX3_init_19 21 rfl rfl)
theorem dX3_init_477 : decode cX3_init 477 = .ok (.newarray .int, 2) := dk_188_10 (dk_at dksX3_init_20 0 rfl rfl)
theorem dX3_init_479 : decode cX3_init 479 = .ok (.putfield 50, 3) := dk_181 0 50 (dk_at dksX3_init_20 2 rfl rfl)
theorem dX3_init_482 : decode cX3_init 482 = .ok (.aload_n 0, 1) := dk_42 (dk_at dksX3_init_20 5 rfl rfl)
theorem dX3_init_483 : decode cX3_init 483 = .ok (.sipush 800, 3) := dk_17 3 32 (dk_at dksX3_init_20 6 rfl rfl)
theorem dX3_init_486 : decode cX3_init 486 = .ok (.newarray .int, 2) := dk_188_10 (dk_at dksX3_init_20 9 rfl rfl)
theorem dX3_init_488 : decode cX3_init 488 = .ok (.putfield 53, 3) := dk_181 0 53 (dk_at dksX3_init_20 11 rfl rfl)
theorem dX3_init_491 : decode cX3_init 491 = .ok (.aload_n 0, 1) := dk_42 (dk_at dksX3_init_20 14 rfl rfl)
theorem dX3_init_492 : decode cX3_init 492 = .ok (.sipush 800, 3) := dk_17 3 32 (dk_at dksX3_init_20 15 rfl rfl)
theorem dX3_init_495 : decode cX3_init 495 = .ok (.newarray .int, 2) := dk_188_10 (dk_at dksX3_init_20 18 rfl rfl)
theorem dX3_init_497 : decode cX3_init 497 = .ok (.putfield 56, 3) := dk_181 0 56 (dk_at dksX3_init_20 20 rfl rfl)
theorem dX3_init_500 : decode cX3_init 500 = .ok (.aload_n 0, 1) := dk_42 (dk_at dksX3_init_20 23 rfl rfl)
theorem dX3_init_501 : decode cX3_init 501 = .ok (.bipush 40, 2) := dk_16 40 (dk_at dksX3_init_21 0 rfl rfl)
theorem dX3_init_503 : decode cX3_init 503 = .ok (.newarray .int, 2) := dk_188_10 (dk_at dksX3_init_21 2 rfl rfl)
theorem dX3_init_505 : decode cX3_init 505 = .ok (.putfield 59, 3) := dk_181 0 59 (dk_at dksX3_init_21 4 rfl rfl)
theorem dX3_init_508 : decode cX3_init 508 = .ok (.aload_n 0, 1) := dk_42 (dk_at dksX3_init_21 7 rfl rfl)
theorem dX3_init_509 : decode cX3_init 509 = .ok (.iconst (-1), 1) := dk_2 (dk_at dksX3_init_21 8 rfl rfl)
theorem dX3_init_510 : decode cX3_init 510 = .ok (.putfield 62, 3) := dk_181 0 62 (dk_at dksX3_init_21 9 rfl rfl)
theorem dX3_init_513 : decode cX3_init 513 = .ok (.aload_n 0, 1) := dk_42 (dk_at dksX3_init_21 12 rfl rfl)
theorem dX3_init_514 : decode cX3_init 514 = .ok (.bipush 9, 2) := dk_16 9 (dk_at dksX3_init_21 13 rfl rfl)
theorem dX3_init_516 : decode cX3_init 516 = .ok (.newarray .int, 2) := dk_188_10 (dk_at dksX3_init_21 15 rfl rfl)
theorem dX3_init_518 : decode cX3_init 518 = .ok (.putfield 65, 3) := dk_181 0 65 (dk_at dksX3_init_21 17 rfl rfl)
theorem dX3_init_521 : decode cX3_init 521 = .ok (.aload_n 0, 1) := dk_42 (dk_at dksX3_init_21 20 rfl rfl)
theorem dX3_init_522 : decode cX3_init 522 = .ok (.sipush 420, 3) := dk_17 1 164 (dk_at dksX3_init_21 21 rfl rfl)
theorem dX3_init_525 : decode cX3_init 525 = .ok (.newarray .int, 2) := dk_188_10 (dk_at dksX3_init_22 0 rfl rfl)
theorem dX3_init_527 : decode cX3_init 527 = .ok (.putfield 68, 3) := dk_181 0 68 (dk_at dksX3_init_22 2 rfl rfl)
theorem dX3_init_530 : decode cX3_init 530 = .ok (.aload_n 0, 1) := dk_42 (dk_at dksX3_init_22 5 rfl rfl)
theorem dX3_init_531 : decode cX3_init 531 = .ok (.bipush 64, 2) := dk_16 64 (dk_at dksX3_init_22 6 rfl rfl)
theorem dX3_init_533 : decode cX3_init 533 = .ok (.newarray .int, 2) := dk_188_10 (dk_at dksX3_init_22 8 rfl rfl)
theorem dX3_init_535 : decode cX3_init 535 = .ok (.putfield 71, 3) := dk_181 0 71 (dk_at dksX3_init_22 10 rfl rfl)
theorem dX3_init_538 : decode cX3_init 538 = .ok (.aload_n 0, 1) := dk_42 (dk_at dksX3_init_22 13 rfl rfl)
theorem dX3_init_539 : decode cX3_init 539 = .ok (.bipush 64, 2) := dk_16 64 (dk_at dksX3_init_22 14 rfl rfl)
theorem dX3_init_541 : decode cX3_init 541 = .ok (.newarray .int, 2) := dk_188_10 (dk_at dksX3_init_22 16 rfl rfl)
theorem dX3_init_543 : decode cX3_init 543 = .ok (.putfield 74, 3) := dk_181 0 74 (dk_at dksX3_init_22 18 rfl rfl)
theorem dX3_init_546 : decode cX3_init 546 = .ok (.aload_n 0, 1) := dk_42 (dk_at dksX3_init_22 21 rfl rfl)
theorem dX3_init_547 : decode cX3_init 547 = .ok (.sipush 4096, 3) := dk_17 16 0 (dk_at dksX3_init_23 0 rfl rfl)
theorem dX3_init_550 : decode cX3_init 550 = .ok (.newarray .int, 2) := dk_188_10 (dk_at dksX3_init_23 3 rfl rfl)
theorem dX3_init_552 : decode cX3_init 552 = .ok (.putfield 77, 3) := dk_181 0 77 (dk_at dksX3_init_23 5 rfl rfl)
theorem dX3_init_555 : decode cX3_init 555 = .ok (.aload_n 0, 1) := dk_42 (dk_at dksX3_init_23 8 rfl rfl)
theorem dX3_init_556 : decode cX3_init 556 = .ok (.bipush 12, 2) := dk_16 12 (dk_at dksX3_init_23 9 rfl rfl)
theorem dX3_init_558 : decode cX3_init 558 = .ok (.newarray .int, 2) := dk_188_10 (dk_at dksX3_init_23 11 rfl rfl)
theorem dX3_init_560 : decode cX3_init 560 = .ok (.putfield 80, 3) := dk_181 0 80 (dk_at dksX3_init_23 13 rfl rfl)
theorem dX3_init_563 : decode cX3_init 563 = .ok (.aload_n 0, 1) := dk_42 (dk_at dksX3_init_23 16 rfl rfl)
theorem dX3_init_564 : decode cX3_init 564 = .ok (.sipush 1800, 3) := dk_17 7 8 (dk_at dksX3_init_23 17 rfl rfl)
theorem dX3_init_567 : decode cX3_init 567 = .ok (.newarray .int, 2) := dk_188_10 (dk_at dksX3_init_23 20 rfl rfl)
theorem dX3_init_569 : decode cX3_init 569 = .ok (.putfield 83, 3) := dk_181 0 83 (dk_at dksX3_init_24 0 rfl rfl)
theorem dX3_init_572 : decode cX3_init 572 = .ok (.return_, 1) := dk_177 (dk_at dksX3_init_24 3 rfl rfl)
abbrev cX3_undo : ByteArray := prog_14_method_7_code
def yX3_undo : MethodName := ⟨RX3, "undo", "()Z"⟩
def dkwX3_undo_2 : List UInt8 := [180, 0, 89, 104, 27, 96, 46, 79, 132, 1, 1, 167, 255, 225, 4, 172]
abbrev dktX3_undo_2 : List UInt8 := dkwX3_undo_2 ++ []
def dkwX3_undo_1 : List UInt8 := [3, 60, 27, 17, 1, 92, 162, 0, 30, 42, 180, 0, 7, 27, 42, 180, 0, 13, 17, 1, 92, 42]
abbrev dktX3_undo_1 : List UInt8 := dkwX3_undo_1 ++ dktX3_undo_2
def dkwX3_undo_0 : List UInt8 := [42, 3, 181, 0, 86, 42, 180, 0, 89, 154, 0, 5, 3, 172, 42, 42, 180, 0, 89, 4, 100, 181, 0, 89]
abbrev dktX3_undo_0 : List UInt8 := dkwX3_undo_0 ++ dktX3_undo_1
theorem dksX3_undo_0 : cX3_undo.data.toList.drop 0 = dktX3_undo_0 := by decide +kernel
theorem dksX3_undo_1 : cX3_undo.data.toList.drop 24 = dktX3_undo_1 := dk_seg dksX3_undo_0 24 rfl rfl
theorem dksX3_undo_2 : cX3_undo.data.toList.drop 46 = dktX3_undo_2 := dk_seg dksX3_undo_1 22 rfl rfl
theorem dX3_undo_0 : decode cX3_undo 0 = .ok (.aload_n 0, 1) := dk_42 (dk_at dksX3_undo_0 0 rfl rfl)
theorem dX3_undo_1 : decode cX3_undo 1 = .ok (.iconst 0, 1) := dk_3 (dk_at dksX3_undo_0 1 rfl rfl)
theorem dX3_undo_2 : decode cX3_undo 2 = .ok (.putfield 86, 3) := dk_181 0 86 (dk_at dksX3_undo_0 2 rfl rfl)
theorem dX3_undo_5 : decode cX3_undo 5 = .ok (.aload_n 0, 1) := dk_42 (dk_at dksX3_undo_0 5 rfl rfl)
theorem dX3_undo_6 : decode cX3_undo 6 = .ok (.getfield 89, 3) := dk_180 0 89 (dk_at dksX3_undo_0 6 rfl rfl)
theorem dX3_undo_9 : decode cX3_undo 9 = .ok (.ifCond .ne 5, 3) := dk_154 0 5 (dk_at dksX3_undo_0 9 rfl rfl)
theorem dX3_undo_12 : decode cX3_undo 12 = .ok (.iconst 0, 1) := dk_3 (dk_at dksX3_undo_0 12 rfl rfl)
theorem dX3_undo_13 : decode cX3_undo 13 = .ok (.ireturn, 1) := dk_172 (dk_at dksX3_undo_0 13 rfl rfl)
theorem dX3_undo_14 : decode cX3_undo 14 = .ok (.aload_n 0, 1) := dk_42 (dk_at dksX3_undo_0 14 rfl rfl)
theorem dX3_undo_15 : decode cX3_undo 15 = .ok (.aload_n 0, 1) := dk_42 (dk_at dksX3_undo_0 15 rfl rfl)
theorem dX3_undo_16 : decode cX3_undo 16 = .ok (.getfield 89, 3) := dk_180 0 89 (dk_at dksX3_undo_0 16 rfl rfl)
theorem dX3_undo_19 : decode cX3_undo 19 = .ok (.iconst 1, 1) := dk_4 (dk_at dksX3_undo_0 19 rfl rfl)
theorem dX3_undo_20 : decode cX3_undo 20 = .ok (.isub, 1) := dk_100 (dk_at dksX3_undo_0 20 rfl rfl)
theorem dX3_undo_21 : decode cX3_undo 21 = .ok (.putfield 89, 3) := dk_181 0 89 (dk_at dksX3_undo_0 21 rfl rfl)
theorem dX3_undo_24 : decode cX3_undo 24 = .ok (.iconst 0, 1) := dk_3 (dk_at dksX3_undo_1 0 rfl rfl)
theorem dX3_undo_25 : decode cX3_undo 25 = .ok (.istore_n 1, 1) := dk_60 (dk_at dksX3_undo_1 1 rfl rfl)
theorem dX3_undo_26 : decode cX3_undo 26 = .ok (.iload_n 1, 1) := dk_27 (dk_at dksX3_undo_1 2 rfl rfl)
theorem dX3_undo_27 : decode cX3_undo 27 = .ok (.sipush 348, 3) := dk_17 1 92 (dk_at dksX3_undo_1 3 rfl rfl)
theorem dX3_undo_30 : decode cX3_undo 30 = .ok (.if_icmp .ge 30, 3) := dk_162 0 30 (dk_at dksX3_undo_1 6 rfl rfl)
theorem dX3_undo_33 : decode cX3_undo 33 = .ok (.aload_n 0, 1) := dk_42 (dk_at dksX3_undo_1 9 rfl rfl)
theorem dX3_undo_34 : decode cX3_undo 34 = .ok (.getfield 7, 3) := dk_180 0 7 (dk_at dksX3_undo_1 10 rfl rfl)
theorem dX3_undo_37 : decode cX3_undo 37 = .ok (.iload_n 1, 1) := dk_27 (dk_at dksX3_undo_1 13 rfl rfl)
theorem dX3_undo_38 : decode cX3_undo 38 = .ok (.aload_n 0, 1) := dk_42 (dk_at dksX3_undo_1 14 rfl rfl)
theorem dX3_undo_39 : decode cX3_undo 39 = .ok (.getfield 13, 3) := dk_180 0 13 (dk_at dksX3_undo_1 15 rfl rfl)
theorem dX3_undo_42 : decode cX3_undo 42 = .ok (.sipush 348, 3) := dk_17 1 92 (dk_at dksX3_undo_1 18 rfl rfl)
theorem dX3_undo_45 : decode cX3_undo 45 = .ok (.aload_n 0, 1) := dk_42 (dk_at dksX3_undo_1 21 rfl rfl)
theorem dX3_undo_46 : decode cX3_undo 46 = .ok (.getfield 89, 3) := dk_180 0 89 (dk_at dksX3_undo_2 0 rfl rfl)
theorem dX3_undo_49 : decode cX3_undo 49 = .ok (.imul, 1) := dk_104 (dk_at dksX3_undo_2 3 rfl rfl)
theorem dX3_undo_50 : decode cX3_undo 50 = .ok (.iload_n 1, 1) := dk_27 (dk_at dksX3_undo_2 4 rfl rfl)
theorem dX3_undo_51 : decode cX3_undo 51 = .ok (.iadd, 1) := dk_96 (dk_at dksX3_undo_2 5 rfl rfl)
theorem dX3_undo_52 : decode cX3_undo 52 = .ok (.iaload, 1) := dk_46 (dk_at dksX3_undo_2 6 rfl rfl)
theorem dX3_undo_53 : decode cX3_undo 53 = .ok (.iastore, 1) := dk_79 (dk_at dksX3_undo_2 7 rfl rfl)
theorem dX3_undo_54 : decode cX3_undo 54 = .ok (.iinc 1 1, 3) := dk_132 1 1 (dk_at dksX3_undo_2 8 rfl rfl)
theorem dX3_undo_57 : decode cX3_undo 57 = .ok (.goto (-31), 3) := dk_167 255 225 (dk_at dksX3_undo_2 11 rfl rfl)
theorem dX3_undo_60 : decode cX3_undo 60 = .ok (.iconst 1, 1) := dk_4 (dk_at dksX3_undo_2 14 rfl rfl)
theorem dX3_undo_61 : decode cX3_undo 61 = .ok (.ireturn, 1) := dk_172 (dk_at dksX3_undo_2 15 rfl rfl)
abbrev cX3_state : ByteArray := prog_14_method_8_code
def yX3_state : MethodName := ⟨RX3, "state", "(I)I"⟩
def dkwX3_state_0 : List UInt8 := [42, 3, 181, 0, 86, 42, 180, 0, 92, 61, 42, 27, 181, 0, 92, 28, 172]
abbrev dktX3_state_0 : List UInt8 := dkwX3_state_0 ++ []
theorem dksX3_state_0 : cX3_state.data.toList.drop 0 = dktX3_state_0 := by decide +kernel
theorem dX3_state_0 : decode cX3_state 0 = .ok (.aload_n 0, 1) := dk_42 (dk_at dksX3_state_0 0 rfl rfl)
theorem dX3_state_1 : decode cX3_state 1 = .ok (.iconst 0, 1) := dk_3 (dk_at dksX3_state_0 1 rfl rfl)
theorem dX3_state_2 : decode cX3_state 2 = .ok (.putfield 86, 3) := dk_181 0 86 (dk_at dksX3_state_0 2 rfl rfl)
theorem dX3_state_5 : decode cX3_state 5 = .ok (.aload_n 0, 1) := dk_42 (dk_at dksX3_state_0 5 rfl rfl)
theorem dX3_state_6 : decode cX3_state 6 = .ok (.getfield 92, 3) := dk_180 0 92 (dk_at dksX3_state_0 6 rfl rfl)
theorem dX3_state_9 : decode cX3_state 9 = .ok (.istore_n 2, 1) := dk_61 (dk_at dksX3_state_0 9 rfl rfl)
theorem dX3_state_10 : decode cX3_state 10 = .ok (.aload_n 0, 1) := dk_42 (dk_at dksX3_state_0 10 rfl rfl)
theorem dX3_state_11 : decode cX3_state 11 = .ok (.iload_n 1, 1) := dk_27 (dk_at dksX3_state_0 11 rfl rfl)
theorem dX3_state_12 : decode cX3_state 12 = .ok (.putfield 92, 3) := dk_181 0 92 (dk_at dksX3_state_0 12 rfl rfl)
theorem dX3_state_15 : decode cX3_state 15 = .ok (.iload_n 2, 1) := dk_28 (dk_at dksX3_state_0 15 rfl rfl)
theorem dX3_state_16 : decode cX3_state 16 = .ok (.ireturn, 1) := dk_172 (dk_at dksX3_state_0 16 rfl rfl)
abbrev cX3_wood : ByteArray := prog_14_method_14_code
def yX3_wood : MethodName := ⟨RX3, "wood", "(II)Z"⟩
def dkwX3_wood_5 : List UInt8 := [3, 181, 0, 126, 42, 3, 181, 0, 89, 4, 172]
abbrev dktX3_wood_5 : List UInt8 := dkwX3_wood_5 ++ []
def dkwX3_wood_4 : List UInt8 := [181, 0, 111, 42, 3, 181, 0, 114, 42, 3, 181, 0, 117, 42, 3, 181, 0, 120, 42, 3, 181, 0, 123, 42]
abbrev dktX3_wood_4 : List UInt8 := dkwX3_wood_4 ++ dktX3_wood_5
def dkwX3_wood_3 : List UInt8 := [180, 0, 23, 29, 3, 79, 132, 3, 1, 167, 255, 240, 42, 3, 181, 0, 97, 42, 3, 181, 0, 100, 42, 3]
abbrev dktX3_wood_3 : List UInt8 := dkwX3_wood_3 ++ dktX3_wood_4
def dkwX3_wood_2 : List UInt8 := [42, 180, 0, 7, 29, 3, 79, 132, 3, 1, 167, 255, 239, 3, 62, 29, 16, 64, 162, 0, 16, 42]
abbrev dktX3_wood_2 : List UInt8 := dkwX3_wood_2 ++ dktX3_wood_3
def dkwX3_wood_1 : List UInt8 := [154, 0, 5, 3, 172, 42, 27, 181, 0, 16, 42, 28, 181, 0, 20, 3, 62, 29, 17, 1, 92, 162, 0, 16]
abbrev dktX3_wood_1 : List UInt8 := dkwX3_wood_1 ++ dktX3_wood_2
def dkwX3_wood_0 : List UInt8 := [42, 3, 181, 0, 86, 42, 27, 6, 16, 8, 182, 0, 107, 153, 0, 14, 42, 28, 6, 16, 8, 182, 0, 107]
abbrev dktX3_wood_0 : List UInt8 := dkwX3_wood_0 ++ dktX3_wood_1
theorem dksX3_wood_0 : cX3_wood.data.toList.drop 0 = dktX3_wood_0 := by decide +kernel
theorem dksX3_wood_1 : cX3_wood.data.toList.drop 24 = dktX3_wood_1 := dk_seg dksX3_wood_0 24 rfl rfl
theorem dksX3_wood_2 : cX3_wood.data.toList.drop 48 = dktX3_wood_2 := dk_seg dksX3_wood_1 24 rfl rfl
theorem dksX3_wood_3 : cX3_wood.data.toList.drop 70 = dktX3_wood_3 := dk_seg dksX3_wood_2 22 rfl rfl
theorem dksX3_wood_4 : cX3_wood.data.toList.drop 94 = dktX3_wood_4 := dk_seg dksX3_wood_3 24 rfl rfl
theorem dksX3_wood_5 : cX3_wood.data.toList.drop 118 = dktX3_wood_5 := dk_seg dksX3_wood_4 24 rfl rfl
theorem dX3_wood_0 : decode cX3_wood 0 = .ok (.aload_n 0, 1) := dk_42 (dk_at dksX3_wood_0 0 rfl rfl)
theorem dX3_wood_1 : decode cX3_wood 1 = .ok (.iconst 0, 1) := dk_3 (dk_at dksX3_wood_0 1 rfl rfl)
theorem dX3_wood_2 : decode cX3_wood 2 = .ok (.putfield 86, 3) := dk_181 0 86 (dk_at dksX3_wood_0 2 rfl rfl)
theorem dX3_wood_5 : decode cX3_wood 5 = .ok (.aload_n 0, 1) := dk_42 (dk_at dksX3_wood_0 5 rfl rfl)
theorem dX3_wood_6 : decode cX3_wood 6 = .ok (.iload_n 1, 1) := dk_27 (dk_at dksX3_wood_0 6 rfl rfl)
theorem dX3_wood_7 : decode cX3_wood 7 = .ok (.iconst 3, 1) := dk_6 (dk_at dksX3_wood_0 7 rfl rfl)
theorem dX3_wood_8 : decode cX3_wood 8 = .ok (.bipush 8, 2) := dk_16 8 (dk_at dksX3_wood_0 8 rfl rfl)
theorem dX3_wood_10 : decode cX3_wood 10 = .ok (.invokevirtual 107, 3) := dk_182 0 107 (dk_at dksX3_wood_0 10 rfl rfl)
theorem dX3_wood_13 : decode cX3_wood 13 = .ok (.ifCond .eq 14, 3) := dk_153 0 14 (dk_at dksX3_wood_0 13 rfl rfl)
theorem dX3_wood_16 : decode cX3_wood 16 = .ok (.aload_n 0, 1) := dk_42 (dk_at dksX3_wood_0 16 rfl rfl)
theorem dX3_wood_17 : decode cX3_wood 17 = .ok (.iload_n 2, 1) := dk_28 (dk_at dksX3_wood_0 17 rfl rfl)
theorem dX3_wood_18 : decode cX3_wood 18 = .ok (.iconst 3, 1) := dk_6 (dk_at dksX3_wood_0 18 rfl rfl)
theorem dX3_wood_19 : decode cX3_wood 19 = .ok (.bipush 8, 2) := dk_16 8 (dk_at dksX3_wood_0 19 rfl rfl)
theorem dX3_wood_21 : decode cX3_wood 21 = .ok (.invokevirtual 107, 3) := dk_182 0 107 (dk_at dksX3_wood_0 21 rfl rfl)
theorem dX3_wood_24 : decode cX3_wood 24 = .ok (.ifCond .ne 5, 3) := dk_154 0 5 (dk_at dksX3_wood_1 0 rfl rfl)
theorem dX3_wood_27 : decode cX3_wood 27 = .ok (.iconst 0, 1) := dk_3 (dk_at dksX3_wood_1 3 rfl rfl)
theorem dX3_wood_28 : decode cX3_wood 28 = .ok (.ireturn, 1) := dk_172 (dk_at dksX3_wood_1 4 rfl rfl)
theorem dX3_wood_29 : decode cX3_wood 29 = .ok (.aload_n 0, 1) := dk_42 (dk_at dksX3_wood_1 5 rfl rfl)
theorem dX3_wood_30 : decode cX3_wood 30 = .ok (.iload_n 1, 1) := dk_27 (dk_at dksX3_wood_1 6 rfl rfl)
theorem dX3_wood_31 : decode cX3_wood 31 = .ok (.putfield 16, 3) := dk_181 0 16 (dk_at dksX3_wood_1 7 rfl rfl)
theorem dX3_wood_34 : decode cX3_wood 34 = .ok (.aload_n 0, 1) := dk_42 (dk_at dksX3_wood_1 10 rfl rfl)
theorem dX3_wood_35 : decode cX3_wood 35 = .ok (.iload_n 2, 1) := dk_28 (dk_at dksX3_wood_1 11 rfl rfl)
theorem dX3_wood_36 : decode cX3_wood 36 = .ok (.putfield 20, 3) := dk_181 0 20 (dk_at dksX3_wood_1 12 rfl rfl)
theorem dX3_wood_39 : decode cX3_wood 39 = .ok (.iconst 0, 1) := dk_3 (dk_at dksX3_wood_1 15 rfl rfl)
theorem dX3_wood_40 : decode cX3_wood 40 = .ok (.istore_n 3, 1) := dk_62 (dk_at dksX3_wood_1 16 rfl rfl)
theorem dX3_wood_41 : decode cX3_wood 41 = .ok (.iload_n 3, 1) := dk_29 (dk_at dksX3_wood_1 17 rfl rfl)
theorem dX3_wood_42 : decode cX3_wood 42 = .ok (.sipush 348, 3) := dk_17 1 92 (dk_at dksX3_wood_1 18 rfl rfl)
theorem dX3_wood_45 : decode cX3_wood 45 = .ok (.if_icmp .ge 16, 3) := dk_162 0 16 (dk_at dksX3_wood_1 21 rfl rfl)
theorem dX3_wood_48 : decode cX3_wood 48 = .ok (.aload_n 0, 1) := dk_42 (dk_at dksX3_wood_2 0 rfl rfl)
theorem dX3_wood_49 : decode cX3_wood 49 = .ok (.getfield 7, 3) := dk_180 0 7 (dk_at dksX3_wood_2 1 rfl rfl)
theorem dX3_wood_52 : decode cX3_wood 52 = .ok (.iload_n 3, 1) := dk_29 (dk_at dksX3_wood_2 4 rfl rfl)
theorem dX3_wood_53 : decode cX3_wood 53 = .ok (.iconst 0, 1) := dk_3 (dk_at dksX3_wood_2 5 rfl rfl)
theorem dX3_wood_54 : decode cX3_wood 54 = .ok (.iastore, 1) := dk_79 (dk_at dksX3_wood_2 6 rfl rfl)
theorem dX3_wood_55 : decode cX3_wood 55 = .ok (.iinc 3 1, 3) := dk_132 3 1 (dk_at dksX3_wood_2 7 rfl rfl)
theorem dX3_wood_58 : decode cX3_wood 58 = .ok (.goto (-17), 3) := dk_167 255 239 (dk_at dksX3_wood_2 10 rfl rfl)
theorem dX3_wood_61 : decode cX3_wood 61 = .ok (.iconst 0, 1) := dk_3 (dk_at dksX3_wood_2 13 rfl rfl)
theorem dX3_wood_62 : decode cX3_wood 62 = .ok (.istore_n 3, 1) := dk_62 (dk_at dksX3_wood_2 14 rfl rfl)
theorem dX3_wood_63 : decode cX3_wood 63 = .ok (.iload_n 3, 1) := dk_29 (dk_at dksX3_wood_2 15 rfl rfl)
theorem dX3_wood_64 : decode cX3_wood 64 = .ok (.bipush 64, 2) := dk_16 64 (dk_at dksX3_wood_2 16 rfl rfl)
theorem dX3_wood_66 : decode cX3_wood 66 = .ok (.if_icmp .ge 16, 3) := dk_162 0 16 (dk_at dksX3_wood_2 18 rfl rfl)
theorem dX3_wood_69 : decode cX3_wood 69 = .ok (.aload_n 0, 1) := dk_42 (dk_at dksX3_wood_2 21 rfl rfl)
theorem dX3_wood_70 : decode cX3_wood 70 = .ok (.getfield 23, 3) := dk_180 0 23 (dk_at dksX3_wood_3 0 rfl rfl)
theorem dX3_wood_73 : decode cX3_wood 73 = .ok (.iload_n 3, 1) := dk_29 (dk_at dksX3_wood_3 3 rfl rfl)
theorem dX3_wood_74 : decode cX3_wood 74 = .ok (.iconst 0, 1) := dk_3 (dk_at dksX3_wood_3 4 rfl rfl)
theorem dX3_wood_75 : decode cX3_wood 75 = .ok (.iastore, 1) := dk_79 (dk_at dksX3_wood_3 5 rfl rfl)
theorem dX3_wood_76 : decode cX3_wood 76 = .ok (.iinc 3 1, 3) := dk_132 3 1 (dk_at dksX3_wood_3 6 rfl rfl)
theorem dX3_wood_79 : decode cX3_wood 79 = .ok (.goto (-16), 3) := dk_167 255 240 (dk_at dksX3_wood_3 9 rfl rfl)
theorem dX3_wood_82 : decode cX3_wood 82 = .ok (.aload_n 0, 1) := dk_42 (dk_at dksX3_wood_3 12 rfl rfl)
theorem dX3_wood_83 : decode cX3_wood 83 = .ok (.iconst 0, 1) := dk_3 (dk_at dksX3_wood_3 13 rfl rfl)
theorem dX3_wood_84 : decode cX3_wood 84 = .ok (.putfield 97, 3) := dk_181 0 97 (dk_at dksX3_wood_3 14 rfl rfl)
theorem dX3_wood_87 : decode cX3_wood 87 = .ok (.aload_n 0, 1) := dk_42 (dk_at dksX3_wood_3 17 rfl rfl)
theorem dX3_wood_88 : decode cX3_wood 88 = .ok (.iconst 0, 1) := dk_3 (dk_at dksX3_wood_3 18 rfl rfl)
theorem dX3_wood_89 : decode cX3_wood 89 = .ok (.putfield 100, 3) := dk_181 0 100 (dk_at dksX3_wood_3 19 rfl rfl)
theorem dX3_wood_92 : decode cX3_wood 92 = .ok (.aload_n 0, 1) := dk_42 (dk_at dksX3_wood_3 22 rfl rfl)
theorem dX3_wood_93 : decode cX3_wood 93 = .ok (.iconst 0, 1) := dk_3 (dk_at dksX3_wood_3 23 rfl rfl)
theorem dX3_wood_94 : decode cX3_wood 94 = .ok (.putfield 111, 3) := dk_181 0 111 (dk_at dksX3_wood_4 0 rfl rfl)
theorem dX3_wood_97 : decode cX3_wood 97 = .ok (.aload_n 0, 1) := dk_42 (dk_at dksX3_wood_4 3 rfl rfl)
theorem dX3_wood_98 : decode cX3_wood 98 = .ok (.iconst 0, 1) := dk_3 (dk_at dksX3_wood_4 4 rfl rfl)
theorem dX3_wood_99 : decode cX3_wood 99 = .ok (.putfield 114, 3) := dk_181 0 114 (dk_at dksX3_wood_4 5 rfl rfl)
theorem dX3_wood_102 : decode cX3_wood 102 = .ok (.aload_n 0, 1) := dk_42 (dk_at dksX3_wood_4 8 rfl rfl)
theorem dX3_wood_103 : decode cX3_wood 103 = .ok (.iconst 0, 1) := dk_3 (dk_at dksX3_wood_4 9 rfl rfl)
theorem dX3_wood_104 : decode cX3_wood 104 = .ok (.putfield 117, 3) := dk_181 0 117 (dk_at dksX3_wood_4 10 rfl rfl)
theorem dX3_wood_107 : decode cX3_wood 107 = .ok (.aload_n 0, 1) := dk_42 (dk_at dksX3_wood_4 13 rfl rfl)
theorem dX3_wood_108 : decode cX3_wood 108 = .ok (.iconst 0, 1) := dk_3 (dk_at dksX3_wood_4 14 rfl rfl)
theorem dX3_wood_109 : decode cX3_wood 109 = .ok (.putfield 120, 3) := dk_181 0 120 (dk_at dksX3_wood_4 15 rfl rfl)
theorem dX3_wood_112 : decode cX3_wood 112 = .ok (.aload_n 0, 1) := dk_42 (dk_at dksX3_wood_4 18 rfl rfl)
theorem dX3_wood_113 : decode cX3_wood 113 = .ok (.iconst 0, 1) := dk_3 (dk_at dksX3_wood_4 19 rfl rfl)
theorem dX3_wood_114 : decode cX3_wood 114 = .ok (.putfield 123, 3) := dk_181 0 123 (dk_at dksX3_wood_4 20 rfl rfl)
theorem dX3_wood_117 : decode cX3_wood 117 = .ok (.aload_n 0, 1) := dk_42 (dk_at dksX3_wood_4 23 rfl rfl)
theorem dX3_wood_118 : decode cX3_wood 118 = .ok (.iconst 0, 1) := dk_3 (dk_at dksX3_wood_5 0 rfl rfl)
theorem dX3_wood_119 : decode cX3_wood 119 = .ok (.putfield 126, 3) := dk_181 0 126 (dk_at dksX3_wood_5 1 rfl rfl)
theorem dX3_wood_122 : decode cX3_wood 122 = .ok (.aload_n 0, 1) := dk_42 (dk_at dksX3_wood_5 4 rfl rfl)
theorem dX3_wood_123 : decode cX3_wood 123 = .ok (.iconst 0, 1) := dk_3 (dk_at dksX3_wood_5 5 rfl rfl)
theorem dX3_wood_124 : decode cX3_wood 124 = .ok (.putfield 89, 3) := dk_181 0 89 (dk_at dksX3_wood_5 6 rfl rfl)
theorem dX3_wood_127 : decode cX3_wood 127 = .ok (.iconst 1, 1) := dk_4 (dk_at dksX3_wood_5 9 rfl rfl)
theorem dX3_wood_128 : decode cX3_wood 128 = .ok (.ireturn, 1) := dk_172 (dk_at dksX3_wood_5 10 rfl rfl)
abbrev cX3_isIn : ByteArray := prog_14_method_3_code
def yX3_isIn : MethodName := ⟨RX3, "isIn", "(III)Z"⟩
def dkwX3_isIn_0 : List UInt8 := [27, 28, 161, 0, 12, 27, 29, 163, 0, 7, 4, 167, 0, 4, 3, 172]
abbrev dktX3_isIn_0 : List UInt8 := dkwX3_isIn_0 ++ []
theorem dksX3_isIn_0 : cX3_isIn.data.toList.drop 0 = dktX3_isIn_0 := by decide +kernel
theorem dX3_isIn_0 : decode cX3_isIn 0 = .ok (.iload_n 1, 1) := dk_27 (dk_at dksX3_isIn_0 0 rfl rfl)
theorem dX3_isIn_1 : decode cX3_isIn 1 = .ok (.iload_n 2, 1) := dk_28 (dk_at dksX3_isIn_0 1 rfl rfl)
theorem dX3_isIn_2 : decode cX3_isIn 2 = .ok (.if_icmp .lt 12, 3) := dk_161 0 12 (dk_at dksX3_isIn_0 2 rfl rfl)
theorem dX3_isIn_5 : decode cX3_isIn 5 = .ok (.iload_n 1, 1) := dk_27 (dk_at dksX3_isIn_0 5 rfl rfl)
theorem dX3_isIn_6 : decode cX3_isIn 6 = .ok (.iload_n 3, 1) := dk_29 (dk_at dksX3_isIn_0 6 rfl rfl)
theorem dX3_isIn_7 : decode cX3_isIn 7 = .ok (.if_icmp .gt 7, 3) := dk_163 0 7 (dk_at dksX3_isIn_0 7 rfl rfl)
theorem dX3_isIn_10 : decode cX3_isIn 10 = .ok (.iconst 1, 1) := dk_4 (dk_at dksX3_isIn_0 10 rfl rfl)
theorem dX3_isIn_11 : decode cX3_isIn 11 = .ok (.goto 4, 3) := dk_167 0 4 (dk_at dksX3_isIn_0 11 rfl rfl)
theorem dX3_isIn_14 : decode cX3_isIn 14 = .ok (.iconst 0, 1) := dk_3 (dk_at dksX3_isIn_0 14 rfl rfl)
theorem dX3_isIn_15 : decode cX3_isIn 15 = .ok (.ireturn, 1) := dk_172 (dk_at dksX3_isIn_0 15 rfl rfl)
abbrev cX3_damp : ByteArray := prog_14_method_15_code
def yX3_damp : MethodName := ⟨RX3, "damp", "(II)Z"⟩
def dkwX3_damp_1 : List UInt8 := [3, 172, 42, 180, 0, 23, 27, 28, 16, 10, 100, 79, 42, 3, 181, 0, 89, 4, 172]
abbrev dktX3_damp_1 : List UInt8 := dkwX3_damp_1 ++ []
def dkwX3_damp_0 : List UInt8 := [42, 3, 181, 0, 86, 42, 27, 182, 0, 129, 153, 0, 14, 42, 28, 3, 16, 99, 182, 0, 107, 154, 0, 5]
abbrev dktX3_damp_0 : List UInt8 := dkwX3_damp_0 ++ dktX3_damp_1
theorem dksX3_damp_0 : cX3_damp.data.toList.drop 0 = dktX3_damp_0 := by decide +kernel
theorem dksX3_damp_1 : cX3_damp.data.toList.drop 24 = dktX3_damp_1 := dk_seg dksX3_damp_0 24 rfl rfl
theorem dX3_damp_0 : decode cX3_damp 0 = .ok (.aload_n 0, 1) := dk_42 (dk_at dksX3_damp_0 0 rfl rfl)
theorem dX3_damp_1 : decode cX3_damp 1 = .ok (.iconst 0, 1) := dk_3 (dk_at dksX3_damp_0 1 rfl rfl)
theorem dX3_damp_2 : decode cX3_damp 2 = .ok (.putfield 86, 3) := dk_181 0 86 (dk_at dksX3_damp_0 2 rfl rfl)
theorem dX3_damp_5 : decode cX3_damp 5 = .ok (.aload_n 0, 1) := dk_42 (dk_at dksX3_damp_0 5 rfl rfl)
theorem dX3_damp_6 : decode cX3_damp 6 = .ok (.iload_n 1, 1) := dk_27 (dk_at dksX3_damp_0 6 rfl rfl)
theorem dX3_damp_7 : decode cX3_damp 7 = .ok (.invokevirtual 129, 3) := dk_182 0 129 (dk_at dksX3_damp_0 7 rfl rfl)
theorem dX3_damp_10 : decode cX3_damp 10 = .ok (.ifCond .eq 14, 3) := dk_153 0 14 (dk_at dksX3_damp_0 10 rfl rfl)
theorem dX3_damp_13 : decode cX3_damp 13 = .ok (.aload_n 0, 1) := dk_42 (dk_at dksX3_damp_0 13 rfl rfl)
theorem dX3_damp_14 : decode cX3_damp 14 = .ok (.iload_n 2, 1) := dk_28 (dk_at dksX3_damp_0 14 rfl rfl)
theorem dX3_damp_15 : decode cX3_damp 15 = .ok (.iconst 0, 1) := dk_3 (dk_at dksX3_damp_0 15 rfl rfl)
theorem dX3_damp_16 : decode cX3_damp 16 = .ok (.bipush 99, 2) := dk_16 99 (dk_at dksX3_damp_0 16 rfl rfl)
theorem dX3_damp_18 : decode cX3_damp 18 = .ok (.invokevirtual 107, 3) := dk_182 0 107 (dk_at dksX3_damp_0 18 rfl rfl)
theorem dX3_damp_21 : decode cX3_damp 21 = .ok (.ifCond .ne 5, 3) := dk_154 0 5 (dk_at dksX3_damp_0 21 rfl rfl)
theorem dX3_damp_24 : decode cX3_damp 24 = .ok (.iconst 0, 1) := dk_3 (dk_at dksX3_damp_1 0 rfl rfl)
theorem dX3_damp_25 : decode cX3_damp 25 = .ok (.ireturn, 1) := dk_172 (dk_at dksX3_damp_1 1 rfl rfl)
theorem dX3_damp_26 : decode cX3_damp 26 = .ok (.aload_n 0, 1) := dk_42 (dk_at dksX3_damp_1 2 rfl rfl)
theorem dX3_damp_27 : decode cX3_damp 27 = .ok (.getfield 23, 3) := dk_180 0 23 (dk_at dksX3_damp_1 3 rfl rfl)
theorem dX3_damp_30 : decode cX3_damp 30 = .ok (.iload_n 1, 1) := dk_27 (dk_at dksX3_damp_1 6 rfl rfl)
theorem dX3_damp_31 : decode cX3_damp 31 = .ok (.iload_n 2, 1) := dk_28 (dk_at dksX3_damp_1 7 rfl rfl)
theorem dX3_damp_32 : decode cX3_damp 32 = .ok (.bipush 10, 2) := dk_16 10 (dk_at dksX3_damp_1 8 rfl rfl)
theorem dX3_damp_34 : decode cX3_damp 34 = .ok (.isub, 1) := dk_100 (dk_at dksX3_damp_1 10 rfl rfl)
theorem dX3_damp_35 : decode cX3_damp 35 = .ok (.iastore, 1) := dk_79 (dk_at dksX3_damp_1 11 rfl rfl)
theorem dX3_damp_36 : decode cX3_damp 36 = .ok (.aload_n 0, 1) := dk_42 (dk_at dksX3_damp_1 12 rfl rfl)
theorem dX3_damp_37 : decode cX3_damp 37 = .ok (.iconst 0, 1) := dk_3 (dk_at dksX3_damp_1 13 rfl rfl)
theorem dX3_damp_38 : decode cX3_damp 38 = .ok (.putfield 89, 3) := dk_181 0 89 (dk_at dksX3_damp_1 14 rfl rfl)
theorem dX3_damp_41 : decode cX3_damp 41 = .ok (.iconst 1, 1) := dk_4 (dk_at dksX3_damp_1 17 rfl rfl)
theorem dX3_damp_42 : decode cX3_damp 42 = .ok (.ireturn, 1) := dk_172 (dk_at dksX3_damp_1 18 rfl rfl)
abbrev cX3_isCell : ByteArray := prog_14_method_10_code
def yX3_isCell : MethodName := ⟨RX3, "isCell", "(I)Z"⟩
def dkwX3_isCell_1 : List UInt8 := [162, 0, 7, 4, 167, 0, 4, 3, 172]
abbrev dktX3_isCell_1 : List UInt8 := dkwX3_isCell_1 ++ []
def dkwX3_isCell_0 : List UInt8 := [27, 155, 0, 29, 27, 16, 8, 112, 42, 180, 0, 16, 162, 0, 18, 27, 16, 8, 108, 42, 180, 0, 20]
abbrev dktX3_isCell_0 : List UInt8 := dkwX3_isCell_0 ++ dktX3_isCell_1
theorem dksX3_isCell_0 : cX3_isCell.data.toList.drop 0 = dktX3_isCell_0 := by decide +kernel
theorem dksX3_isCell_1 : cX3_isCell.data.toList.drop 23 = dktX3_isCell_1 := dk_seg dksX3_isCell_0 23 rfl rfl
theorem dX3_isCell_0 : decode cX3_isCell 0 = .ok (.iload_n 1, 1) := dk_27 (dk_at dksX3_isCell_0 0 rfl rfl)
theorem dX3_isCell_1 : decode cX3_isCell 1 = .ok (.ifCond .lt 29, 3) := dk_155 0 29 (dk_at dksX3_isCell_0 1 rfl rfl)
theorem dX3_isCell_4 : decode cX3_isCell 4 = .ok (.iload_n 1, 1) := dk_27 (dk_at dksX3_isCell_0 4 rfl rfl)
theorem dX3_isCell_5 : decode cX3_isCell 5 = .ok (.bipush 8, 2) := dk_16 8 (dk_at dksX3_isCell_0 5 rfl rfl)
theorem dX3_isCell_7 : decode cX3_isCell 7 = .ok (.irem, 1) := dk_112 (dk_at dksX3_isCell_0 7 rfl rfl)
theorem dX3_isCell_8 : decode cX3_isCell 8 = .ok (.aload_n 0, 1) := dk_42 (dk_at dksX3_isCell_0 8 rfl rfl)
theorem dX3_isCell_9 : decode cX3_isCell 9 = .ok (.getfield 16, 3) := dk_180 0 16 (dk_at dksX3_isCell_0 9 rfl rfl)
theorem dX3_isCell_12 : decode cX3_isCell 12 = .ok (.if_icmp .ge 18, 3) := dk_162 0 18 (dk_at dksX3_isCell_0 12 rfl rfl)
theorem dX3_isCell_15 : decode cX3_isCell 15 = .ok (.iload_n 1, 1) := dk_27 (dk_at dksX3_isCell_0 15 rfl rfl)
theorem dX3_isCell_16 : decode cX3_isCell 16 = .ok (.bipush 8, 2) := dk_16 8 (dk_at dksX3_isCell_0 16 rfl rfl)
theorem dX3_isCell_18 : decode cX3_isCell 18 = .ok (.idiv, 1) := dk_108 (dk_at dksX3_isCell_0 18 rfl rfl)
theorem dX3_isCell_19 : decode cX3_isCell 19 = .ok (.aload_n 0, 1) := dk_42 (dk_at dksX3_isCell_0 19 rfl rfl)
theorem dX3_isCell_20 : decode cX3_isCell 20 = .ok (.getfield 20, 3) := dk_180 0 20 (dk_at dksX3_isCell_0 20 rfl rfl)
theorem dX3_isCell_23 : decode cX3_isCell 23 = .ok (.if_icmp .ge 7, 3) := dk_162 0 7 (dk_at dksX3_isCell_1 0 rfl rfl)
theorem dX3_isCell_26 : decode cX3_isCell 26 = .ok (.iconst 1, 1) := dk_4 (dk_at dksX3_isCell_1 3 rfl rfl)
theorem dX3_isCell_27 : decode cX3_isCell 27 = .ok (.goto 4, 3) := dk_167 0 4 (dk_at dksX3_isCell_1 4 rfl rfl)
theorem dX3_isCell_30 : decode cX3_isCell 30 = .ok (.iconst 0, 1) := dk_3 (dk_at dksX3_isCell_1 7 rfl rfl)
theorem dX3_isCell_31 : decode cX3_isCell 31 = .ok (.ireturn, 1) := dk_172 (dk_at dksX3_isCell_1 8 rfl rfl)
abbrev cX3_word : ByteArray := prog_14_method_16_code
def yX3_word : MethodName := ⟨RX3, "word", "(III)I"⟩
def dkwX3_word_4 : List UInt8 := [181, 0, 89, 42, 180, 0, 97, 4, 100, 172]
abbrev dktX3_word_4 : List UInt8 := dkwX3_word_4 ++ []
def dkwX3_word_3 : List UInt8 := [79, 42, 180, 0, 32, 42, 180, 0, 97, 29, 79, 42, 42, 180, 0, 97, 4, 96, 181, 0, 97, 42, 3]
abbrev dktX3_word_3 : List UInt8 := dkwX3_word_3 ++ dktX3_word_4
def dkwX3_word_2 : List UInt8 := [160, 0, 5, 2, 172, 42, 180, 0, 26, 42, 180, 0, 97, 27, 79, 42, 180, 0, 29, 42, 180, 0, 97, 28]
abbrev dktX3_word_2 : List UInt8 := dkwX3_word_2 ++ dktX3_word_3
def dkwX3_word_1 : List UInt8 := [153, 0, 25, 42, 29, 2, 42, 180, 0, 97, 182, 0, 107, 153, 0, 12, 42, 180, 0, 97, 16, 12]
abbrev dktX3_word_1 : List UInt8 := dkwX3_word_1 ++ dktX3_word_2
def dkwX3_word_0 : List UInt8 := [42, 3, 181, 0, 86, 42, 27, 3, 16, 99, 182, 0, 107, 153, 0, 36, 42, 28, 3, 16, 9, 182, 0, 107]
abbrev dktX3_word_0 : List UInt8 := dkwX3_word_0 ++ dktX3_word_1
theorem dksX3_word_0 : cX3_word.data.toList.drop 0 = dktX3_word_0 := by decide +kernel
theorem dksX3_word_1 : cX3_word.data.toList.drop 24 = dktX3_word_1 := dk_seg dksX3_word_0 24 rfl rfl
theorem dksX3_word_2 : cX3_word.data.toList.drop 46 = dktX3_word_2 := dk_seg dksX3_word_1 22 rfl rfl
theorem dksX3_word_3 : cX3_word.data.toList.drop 70 = dktX3_word_3 := dk_seg dksX3_word_2 24 rfl rfl
theorem dksX3_word_4 : cX3_word.data.toList.drop 93 = dktX3_word_4 := dk_seg dksX3_word_3 23 rfl rfl
theorem dX3_word_0 : decode cX3_word 0 = .ok (.aload_n 0, 1) := dk_42 (dk_at dksX3_word_0 0 rfl rfl)
theorem dX3_word_1 : decode cX3_word 1 = .ok (.iconst 0, 1) := dk_3 (dk_at dksX3_word_0 1 rfl rfl)
theorem dX3_word_2 : decode cX3_word 2 = .ok (.putfield 86, 3) := dk_181 0 86 (dk_at dksX3_word_0 2 rfl rfl)
theorem dX3_word_5 : decode cX3_word 5 = .ok (.aload_n 0, 1) := dk_42 (dk_at dksX3_word_0 5 rfl rfl)
theorem dX3_word_6 : decode cX3_word 6 = .ok (.iload_n 1, 1) := dk_27 (dk_at dksX3_word_0 6 rfl rfl)
theorem dX3_word_7 : decode cX3_word 7 = .ok (.iconst 0, 1) := dk_3 (dk_at dksX3_word_0 7 rfl rfl)
theorem dX3_word_8 : decode cX3_word 8 = .ok (.bipush 99, 2) := dk_16 99 (dk_at dksX3_word_0 8 rfl rfl)
theorem dX3_word_10 : decode cX3_word 10 = .ok (.invokevirtual 107, 3) := dk_182 0 107 (dk_at dksX3_word_0 10 rfl rfl)
theorem dX3_word_13 : decode cX3_word 13 = .ok (.ifCond .eq 36, 3) := dk_153 0 36 (dk_at dksX3_word_0 13 rfl rfl)
theorem dX3_word_16 : decode cX3_word 16 = .ok (.aload_n 0, 1) := dk_42 (dk_at dksX3_word_0 16 rfl rfl)
theorem dX3_word_17 : decode cX3_word 17 = .ok (.iload_n 2, 1) := dk_28 (dk_at dksX3_word_0 17 rfl rfl)
theorem dX3_word_18 : decode cX3_word 18 = .ok (.iconst 0, 1) := dk_3 (dk_at dksX3_word_0 18 rfl rfl)
theorem dX3_word_19 : decode cX3_word 19 = .ok (.bipush 9, 2) := dk_16 9 (dk_at dksX3_word_0 19 rfl rfl)
theorem dX3_word_21 : decode cX3_word 21 = .ok (.invokevirtual 107, 3) := dk_182 0 107 (dk_at dksX3_word_0 21 rfl rfl)
theorem dX3_word_24 : decode cX3_word 24 = .ok (.ifCond .eq 25, 3) := dk_153 0 25 (dk_at dksX3_word_1 0 rfl rfl)
theorem dX3_word_27 : decode cX3_word 27 = .ok (.aload_n 0, 1) := dk_42 (dk_at dksX3_word_1 3 rfl rfl)
theorem dX3_word_28 : decode cX3_word 28 = .ok (.iload_n 3, 1) := dk_29 (dk_at dksX3_word_1 4 rfl rfl)
theorem dX3_word_29 : decode cX3_word 29 = .ok (.iconst (-1), 1) := dk_2 (dk_at dksX3_word_1 5 rfl rfl)
theorem dX3_word_30 : decode cX3_word 30 = .ok (.aload_n 0, 1) := dk_42 (dk_at dksX3_word_1 6 rfl rfl)
theorem dX3_word_31 : decode cX3_word 31 = .ok (.getfield 97, 3) := dk_180 0 97 (dk_at dksX3_word_1 7 rfl rfl)
theorem dX3_word_34 : decode cX3_word 34 = .ok (.invokevirtual 107, 3) := dk_182 0 107 (dk_at dksX3_word_1 10 rfl rfl)
theorem dX3_word_37 : decode cX3_word 37 = .ok (.ifCond .eq 12, 3) := dk_153 0 12 (dk_at dksX3_word_1 13 rfl rfl)
theorem dX3_word_40 : decode cX3_word 40 = .ok (.aload_n 0, 1) := dk_42 (dk_at dksX3_word_1 16 rfl rfl)
theorem dX3_word_41 : decode cX3_word 41 = .ok (.getfield 97, 3) := dk_180 0 97 (dk_at dksX3_word_1 17 rfl rfl)
theorem dX3_word_44 : decode cX3_word 44 = .ok (.bipush 12, 2) := dk_16 12 (dk_at dksX3_word_1 20 rfl rfl)
theorem dX3_word_46 : decode cX3_word 46 = .ok (.if_icmp .ne 5, 3) := dk_160 0 5 (dk_at dksX3_word_2 0 rfl rfl)
theorem dX3_word_49 : decode cX3_word 49 = .ok (.iconst (-1), 1) := dk_2 (dk_at dksX3_word_2 3 rfl rfl)
theorem dX3_word_50 : decode cX3_word 50 = .ok (.ireturn, 1) := dk_172 (dk_at dksX3_word_2 4 rfl rfl)
theorem dX3_word_51 : decode cX3_word 51 = .ok (.aload_n 0, 1) := dk_42 (dk_at dksX3_word_2 5 rfl rfl)
theorem dX3_word_52 : decode cX3_word 52 = .ok (.getfield 26, 3) := dk_180 0 26 (dk_at dksX3_word_2 6 rfl rfl)
theorem dX3_word_55 : decode cX3_word 55 = .ok (.aload_n 0, 1) := dk_42 (dk_at dksX3_word_2 9 rfl rfl)
theorem dX3_word_56 : decode cX3_word 56 = .ok (.getfield 97, 3) := dk_180 0 97 (dk_at dksX3_word_2 10 rfl rfl)
theorem dX3_word_59 : decode cX3_word 59 = .ok (.iload_n 1, 1) := dk_27 (dk_at dksX3_word_2 13 rfl rfl)
theorem dX3_word_60 : decode cX3_word 60 = .ok (.iastore, 1) := dk_79 (dk_at dksX3_word_2 14 rfl rfl)
theorem dX3_word_61 : decode cX3_word 61 = .ok (.aload_n 0, 1) := dk_42 (dk_at dksX3_word_2 15 rfl rfl)
theorem dX3_word_62 : decode cX3_word 62 = .ok (.getfield 29, 3) := dk_180 0 29 (dk_at dksX3_word_2 16 rfl rfl)
theorem dX3_word_65 : decode cX3_word 65 = .ok (.aload_n 0, 1) := dk_42 (dk_at dksX3_word_2 19 rfl rfl)
theorem dX3_word_66 : decode cX3_word 66 = .ok (.getfield 97, 3) := dk_180 0 97 (dk_at dksX3_word_2 20 rfl rfl)
theorem dX3_word_69 : decode cX3_word 69 = .ok (.iload_n 2, 1) := dk_28 (dk_at dksX3_word_2 23 rfl rfl)
theorem dX3_word_70 : decode cX3_word 70 = .ok (.iastore, 1) := dk_79 (dk_at dksX3_word_3 0 rfl rfl)
theorem dX3_word_71 : decode cX3_word 71 = .ok (.aload_n 0, 1) := dk_42 (dk_at dksX3_word_3 1 rfl rfl)
theorem dX3_word_72 : decode cX3_word 72 = .ok (.getfield 32, 3) := dk_180 0 32 (dk_at dksX3_word_3 2 rfl rfl)
theorem dX3_word_75 : decode cX3_word 75 = .ok (.aload_n 0, 1) := dk_42 (dk_at dksX3_word_3 5 rfl rfl)
theorem dX3_word_76 : decode cX3_word 76 = .ok (.getfield 97, 3) := dk_180 0 97 (dk_at dksX3_word_3 6 rfl rfl)
theorem dX3_word_79 : decode cX3_word 79 = .ok (.iload_n 3, 1) := dk_29 (dk_at dksX3_word_3 9 rfl rfl)
theorem dX3_word_80 : decode cX3_word 80 = .ok (.iastore, 1) := dk_79 (dk_at dksX3_word_3 10 rfl rfl)
theorem dX3_word_81 : decode cX3_word 81 = .ok (.aload_n 0, 1) := dk_42 (dk_at dksX3_word_3 11 rfl rfl)
theorem dX3_word_82 : decode cX3_word 82 = .ok (.aload_n 0, 1) := dk_42 (dk_at dksX3_word_3 12 rfl rfl)
theorem dX3_word_83 : decode cX3_word 83 = .ok (.getfield 97, 3) := dk_180 0 97 (dk_at dksX3_word_3 13 rfl rfl)
theorem dX3_word_86 : decode cX3_word 86 = .ok (.iconst 1, 1) := dk_4 (dk_at dksX3_word_3 16 rfl rfl)
theorem dX3_word_87 : decode cX3_word 87 = .ok (.iadd, 1) := dk_96 (dk_at dksX3_word_3 17 rfl rfl)
theorem dX3_word_88 : decode cX3_word 88 = .ok (.putfield 97, 3) := dk_181 0 97 (dk_at dksX3_word_3 18 rfl rfl)
theorem dX3_word_91 : decode cX3_word 91 = .ok (.aload_n 0, 1) := dk_42 (dk_at dksX3_word_3 21 rfl rfl)
theorem dX3_word_92 : decode cX3_word 92 = .ok (.iconst 0, 1) := dk_3 (dk_at dksX3_word_3 22 rfl rfl)
theorem dX3_word_93 : decode cX3_word 93 = .ok (.putfield 89, 3) := dk_181 0 89 (dk_at dksX3_word_4 0 rfl rfl)
theorem dX3_word_96 : decode cX3_word 96 = .ok (.aload_n 0, 1) := dk_42 (dk_at dksX3_word_4 3 rfl rfl)
theorem dX3_word_97 : decode cX3_word 97 = .ok (.getfield 97, 3) := dk_180 0 97 (dk_at dksX3_word_4 4 rfl rfl)
theorem dX3_word_100 : decode cX3_word 100 = .ok (.iconst 1, 1) := dk_4 (dk_at dksX3_word_4 7 rfl rfl)
theorem dX3_word_101 : decode cX3_word 101 = .ok (.isub, 1) := dk_100 (dk_at dksX3_word_4 8 rfl rfl)
theorem dX3_word_102 : decode cX3_word 102 = .ok (.ireturn, 1) := dk_172 (dk_at dksX3_word_4 9 rfl rfl)
abbrev cX3_person : ByteArray := prog_14_method_17_code
def yX3_person : MethodName := ⟨RX3, "person", "(I)I"⟩
def dkwX3_person_2 : List UInt8 := [42, 3, 181, 0, 89, 42, 180, 0, 100, 4, 100, 172]
abbrev dktX3_person_2 : List UInt8 := dkwX3_person_2 ++ []
def dkwX3_person_1 : List UInt8 := [42, 180, 0, 7, 17, 1, 0, 42, 180, 0, 100, 96, 27, 79, 42, 42, 180, 0, 100, 4, 96, 181, 0, 100]
abbrev dktX3_person_1 : List UInt8 := dkwX3_person_1 ++ dktX3_person_2
def dkwX3_person_0 : List UInt8 := [42, 3, 181, 0, 86, 42, 27, 182, 0, 129, 153, 0, 12, 42, 180, 0, 100, 16, 6, 160, 0, 5, 2, 172]
abbrev dktX3_person_0 : List UInt8 := dkwX3_person_0 ++ dktX3_person_1
theorem dksX3_person_0 : cX3_person.data.toList.drop 0 = dktX3_person_0 := by decide +kernel
theorem dksX3_person_1 : cX3_person.data.toList.drop 24 = dktX3_person_1 := dk_seg dksX3_person_0 24 rfl rfl
theorem dksX3_person_2 : cX3_person.data.toList.drop 48 = dktX3_person_2 := dk_seg dksX3_person_1 24 rfl rfl
theorem dX3_person_0 : decode cX3_person 0 = .ok (.aload_n 0, 1) := dk_42 (dk_at dksX3_person_0 0 rfl rfl)
theorem dX3_person_1 : decode cX3_person 1 = .ok (.iconst 0, 1) := dk_3 (dk_at dksX3_person_0 1 rfl rfl)
theorem dX3_person_2 : decode cX3_person 2 = .ok (.putfield 86, 3) := dk_181 0 86 (dk_at dksX3_person_0 2 rfl rfl)
theorem dX3_person_5 : decode cX3_person 5 = .ok (.aload_n 0, 1) := dk_42 (dk_at dksX3_person_0 5 rfl rfl)
theorem dX3_person_6 : decode cX3_person 6 = .ok (.iload_n 1, 1) := dk_27 (dk_at dksX3_person_0 6 rfl rfl)
theorem dX3_person_7 : decode cX3_person 7 = .ok (.invokevirtual 129, 3) := dk_182 0 129 (dk_at dksX3_person_0 7 rfl rfl)
theorem dX3_person_10 : decode cX3_person 10 = .ok (.ifCond .eq 12, 3) := dk_153 0 12 (dk_at dksX3_person_0 10 rfl rfl)
theorem dX3_person_13 : decode cX3_person 13 = .ok (.aload_n 0, 1) := dk_42 (dk_at dksX3_person_0 13 rfl rfl)
theorem dX3_person_14 : decode cX3_person 14 = .ok (.getfield 100, 3) := dk_180 0 100 (dk_at dksX3_person_0 14 rfl rfl)
theorem dX3_person_17 : decode cX3_person 17 = .ok (.bipush 6, 2) := dk_16 6 (dk_at dksX3_person_0 17 rfl rfl)
theorem dX3_person_19 : decode cX3_person 19 = .ok (.if_icmp .ne 5, 3) := dk_160 0 5 (dk_at dksX3_person_0 19 rfl rfl)
theorem dX3_person_22 : decode cX3_person 22 = .ok (.iconst (-1), 1) := dk_2 (dk_at dksX3_person_0 22 rfl rfl)
theorem dX3_person_23 : decode cX3_person 23 = .ok (.ireturn, 1) := dk_172 (dk_at dksX3_person_0 23 rfl rfl)
theorem dX3_person_24 : decode cX3_person 24 = .ok (.aload_n 0, 1) := dk_42 (dk_at dksX3_person_1 0 rfl rfl)
theorem dX3_person_25 : decode cX3_person 25 = .ok (.getfield 7, 3) := dk_180 0 7 (dk_at dksX3_person_1 1 rfl rfl)
theorem dX3_person_28 : decode cX3_person 28 = .ok (.sipush 256, 3) := dk_17 1 0 (dk_at dksX3_person_1 4 rfl rfl)
theorem dX3_person_31 : decode cX3_person 31 = .ok (.aload_n 0, 1) := dk_42 (dk_at dksX3_person_1 7 rfl rfl)
theorem dX3_person_32 : decode cX3_person 32 = .ok (.getfield 100, 3) := dk_180 0 100 (dk_at dksX3_person_1 8 rfl rfl)
theorem dX3_person_35 : decode cX3_person 35 = .ok (.iadd, 1) := dk_96 (dk_at dksX3_person_1 11 rfl rfl)
theorem dX3_person_36 : decode cX3_person 36 = .ok (.iload_n 1, 1) := dk_27 (dk_at dksX3_person_1 12 rfl rfl)
theorem dX3_person_37 : decode cX3_person 37 = .ok (.iastore, 1) := dk_79 (dk_at dksX3_person_1 13 rfl rfl)
theorem dX3_person_38 : decode cX3_person 38 = .ok (.aload_n 0, 1) := dk_42 (dk_at dksX3_person_1 14 rfl rfl)
theorem dX3_person_39 : decode cX3_person 39 = .ok (.aload_n 0, 1) := dk_42 (dk_at dksX3_person_1 15 rfl rfl)
theorem dX3_person_40 : decode cX3_person 40 = .ok (.getfield 100, 3) := dk_180 0 100 (dk_at dksX3_person_1 16 rfl rfl)
theorem dX3_person_43 : decode cX3_person 43 = .ok (.iconst 1, 1) := dk_4 (dk_at dksX3_person_1 19 rfl rfl)
theorem dX3_person_44 : decode cX3_person 44 = .ok (.iadd, 1) := dk_96 (dk_at dksX3_person_1 20 rfl rfl)
theorem dX3_person_45 : decode cX3_person 45 = .ok (.putfield 100, 3) := dk_181 0 100 (dk_at dksX3_person_1 21 rfl rfl)
theorem dX3_person_48 : decode cX3_person 48 = .ok (.aload_n 0, 1) := dk_42 (dk_at dksX3_person_2 0 rfl rfl)
theorem dX3_person_49 : decode cX3_person 49 = .ok (.iconst 0, 1) := dk_3 (dk_at dksX3_person_2 1 rfl rfl)
theorem dX3_person_50 : decode cX3_person 50 = .ok (.putfield 89, 3) := dk_181 0 89 (dk_at dksX3_person_2 2 rfl rfl)
theorem dX3_person_53 : decode cX3_person 53 = .ok (.aload_n 0, 1) := dk_42 (dk_at dksX3_person_2 5 rfl rfl)
theorem dX3_person_54 : decode cX3_person 54 = .ok (.getfield 100, 3) := dk_180 0 100 (dk_at dksX3_person_2 6 rfl rfl)
theorem dX3_person_57 : decode cX3_person 57 = .ok (.iconst 1, 1) := dk_4 (dk_at dksX3_person_2 9 rfl rfl)
theorem dX3_person_58 : decode cX3_person 58 = .ok (.isub, 1) := dk_100 (dk_at dksX3_person_2 10 rfl rfl)
theorem dX3_person_59 : decode cX3_person 59 = .ok (.ireturn, 1) := dk_172 (dk_at dksX3_person_2 11 rfl rfl)
abbrev cX3_set : ByteArray := prog_14_method_18_code
def yX3_set : MethodName := ⟨RX3, "set", "(II)Z"⟩
def dkwX3_set_2 : List UInt8 := [27, 5, 160, 0, 8, 42, 28, 181, 0, 117, 42, 3, 181, 0, 89, 4, 172]
abbrev dktX3_set_2 : List UInt8 := dkwX3_set_2 ++ []
def dkwX3_set_1 : List UInt8 := [154, 0, 5, 3, 172, 27, 154, 0, 8, 42, 28, 181, 0, 111, 27, 4, 160, 0, 8, 42, 28, 181, 0, 114]
abbrev dktX3_set_1 : List UInt8 := dkwX3_set_1 ++ dktX3_set_2
def dkwX3_set_0 : List UInt8 := [42, 3, 181, 0, 86, 42, 27, 3, 5, 182, 0, 107, 153, 0, 15, 42, 28, 3, 17, 3, 232, 182, 0, 107]
abbrev dktX3_set_0 : List UInt8 := dkwX3_set_0 ++ dktX3_set_1
theorem dksX3_set_0 : cX3_set.data.toList.drop 0 = dktX3_set_0 := by decide +kernel
theorem dksX3_set_1 : cX3_set.data.toList.drop 24 = dktX3_set_1 := dk_seg dksX3_set_0 24 rfl rfl
theorem dksX3_set_2 : cX3_set.data.toList.drop 48 = dktX3_set_2 := dk_seg dksX3_set_1 24 rfl rfl
theorem dX3_set_0 : decode cX3_set 0 = .ok (.aload_n 0, 1) := dk_42 (dk_at dksX3_set_0 0 rfl rfl)
theorem dX3_set_1 : decode cX3_set 1 = .ok (.iconst 0, 1) := dk_3 (dk_at dksX3_set_0 1 rfl rfl)
theorem dX3_set_2 : decode cX3_set 2 = .ok (.putfield 86, 3) := dk_181 0 86 (dk_at dksX3_set_0 2 rfl rfl)
theorem dX3_set_5 : decode cX3_set 5 = .ok (.aload_n 0, 1) := dk_42 (dk_at dksX3_set_0 5 rfl rfl)
theorem dX3_set_6 : decode cX3_set 6 = .ok (.iload_n 1, 1) := dk_27 (dk_at dksX3_set_0 6 rfl rfl)
theorem dX3_set_7 : decode cX3_set 7 = .ok (.iconst 0, 1) := dk_3 (dk_at dksX3_set_0 7 rfl rfl)
theorem dX3_set_8 : decode cX3_set 8 = .ok (.iconst 2, 1) := dk_5 (dk_at dksX3_set_0 8 rfl rfl)
theorem dX3_set_9 : decode cX3_set 9 = .ok (.invokevirtual 107, 3) := dk_182 0 107 (dk_at dksX3_set_0 9 rfl rfl)
theorem dX3_set_12 : decode cX3_set 12 = .ok (.ifCond .eq 15, 3) := dk_153 0 15 (dk_at dksX3_set_0 12 rfl rfl)
theorem dX3_set_15 : decode cX3_set 15 = .ok (.aload_n 0, 1) := dk_42 (dk_at dksX3_set_0 15 rfl rfl)
theorem dX3_set_16 : decode cX3_set 16 = .ok (.iload_n 2, 1) := dk_28 (dk_at dksX3_set_0 16 rfl rfl)
theorem dX3_set_17 : decode cX3_set 17 = .ok (.iconst 0, 1) := dk_3 (dk_at dksX3_set_0 17 rfl rfl)
theorem dX3_set_18 : decode cX3_set 18 = .ok (.sipush 1000, 3) := dk_17 3 232 (dk_at dksX3_set_0 18 rfl rfl)
theorem dX3_set_21 : decode cX3_set 21 = .ok (.invokevirtual 107, 3) := dk_182 0 107 (dk_at dksX3_set_0 21 rfl rfl)
theorem dX3_set_24 : decode cX3_set 24 = .ok (.ifCond .ne 5, 3) := dk_154 0 5 (dk_at dksX3_set_1 0 rfl rfl)
theorem dX3_set_27 : decode cX3_set 27 = .ok (.iconst 0, 1) := dk_3 (dk_at dksX3_set_1 3 rfl rfl)
theorem dX3_set_28 : decode cX3_set 28 = .ok (.ireturn, 1) := dk_172 (dk_at dksX3_set_1 4 rfl rfl)
theorem dX3_set_29 : decode cX3_set 29 = .ok (.iload_n 1, 1) := dk_27 (dk_at dksX3_set_1 5 rfl rfl)
theorem dX3_set_30 : decode cX3_set 30 = .ok (.ifCond .ne 8, 3) := dk_154 0 8 (dk_at dksX3_set_1 6 rfl rfl)
theorem dX3_set_33 : decode cX3_set 33 = .ok (.aload_n 0, 1) := dk_42 (dk_at dksX3_set_1 9 rfl rfl)
theorem dX3_set_34 : decode cX3_set 34 = .ok (.iload_n 2, 1) := dk_28 (dk_at dksX3_set_1 10 rfl rfl)
theorem dX3_set_35 : decode cX3_set 35 = .ok (.putfield 111, 3) := dk_181 0 111 (dk_at dksX3_set_1 11 rfl rfl)
theorem dX3_set_38 : decode cX3_set 38 = .ok (.iload_n 1, 1) := dk_27 (dk_at dksX3_set_1 14 rfl rfl)
theorem dX3_set_39 : decode cX3_set 39 = .ok (.iconst 1, 1) := dk_4 (dk_at dksX3_set_1 15 rfl rfl)
theorem dX3_set_40 : decode cX3_set 40 = .ok (.if_icmp .ne 8, 3) := dk_160 0 8 (dk_at dksX3_set_1 16 rfl rfl)
theorem dX3_set_43 : decode cX3_set 43 = .ok (.aload_n 0, 1) := dk_42 (dk_at dksX3_set_1 19 rfl rfl)
theorem dX3_set_44 : decode cX3_set 44 = .ok (.iload_n 2, 1) := dk_28 (dk_at dksX3_set_1 20 rfl rfl)
theorem dX3_set_45 : decode cX3_set 45 = .ok (.putfield 114, 3) := dk_181 0 114 (dk_at dksX3_set_1 21 rfl rfl)
theorem dX3_set_48 : decode cX3_set 48 = .ok (.iload_n 1, 1) := dk_27 (dk_at dksX3_set_2 0 rfl rfl)
theorem dX3_set_49 : decode cX3_set 49 = .ok (.iconst 2, 1) := dk_5 (dk_at dksX3_set_2 1 rfl rfl)
theorem dX3_set_50 : decode cX3_set 50 = .ok (.if_icmp .ne 8, 3) := dk_160 0 8 (dk_at dksX3_set_2 2 rfl rfl)
theorem dX3_set_53 : decode cX3_set 53 = .ok (.aload_n 0, 1) := dk_42 (dk_at dksX3_set_2 5 rfl rfl)
theorem dX3_set_54 : decode cX3_set 54 = .ok (.iload_n 2, 1) := dk_28 (dk_at dksX3_set_2 6 rfl rfl)
theorem dX3_set_55 : decode cX3_set 55 = .ok (.putfield 117, 3) := dk_181 0 117 (dk_at dksX3_set_2 7 rfl rfl)
theorem dX3_set_58 : decode cX3_set 58 = .ok (.aload_n 0, 1) := dk_42 (dk_at dksX3_set_2 10 rfl rfl)
theorem dX3_set_59 : decode cX3_set 59 = .ok (.iconst 0, 1) := dk_3 (dk_at dksX3_set_2 11 rfl rfl)
theorem dX3_set_60 : decode cX3_set 60 = .ok (.putfield 89, 3) := dk_181 0 89 (dk_at dksX3_set_2 12 rfl rfl)
theorem dX3_set_63 : decode cX3_set 63 = .ok (.iconst 1, 1) := dk_4 (dk_at dksX3_set_2 15 rfl rfl)
theorem dX3_set_64 : decode cX3_set 64 = .ok (.ireturn, 1) := dk_172 (dk_at dksX3_set_2 16 rfl rfl)
abbrev cX3_go : ByteArray := prog_14_method_19_code
def yX3_go : MethodName := ⟨RX3, "go", "(III)Z"⟩
def dkwX3_go_6 : List UInt8 := [42, 182, 0, 136, 42, 180, 0, 7, 17, 1, 0, 27, 96, 16, 8, 21, 5, 104, 21, 4, 96, 79, 4, 172]
abbrev dktX3_go_6 : List UInt8 := dkwX3_go_6 ++ []
def dkwX3_go_5 : List UInt8 := [182, 0, 107, 153, 0, 19, 42, 21, 5, 3, 42, 180, 0, 20, 4, 100, 182, 0, 107, 154, 0, 5, 3, 172]
abbrev dktX3_go_5 : List UInt8 := dkwX3_go_5 ++ dktX3_go_6
def dkwX3_go_4 : List UInt8 := [154, 0, 8, 29, 116, 167, 0, 4, 3, 96, 54, 5, 42, 21, 4, 3, 42, 180, 0, 16, 4, 100]
abbrev dktX3_go_4 : List UInt8 := dkwX3_go_4 ++ dktX3_go_5
def dkwX3_go_3 : List UInt8 := [42, 180, 0, 7, 17, 1, 0, 27, 96, 46, 16, 8, 108, 28, 5, 160, 0, 7, 29, 167, 0, 13, 28]
abbrev dktX3_go_3 : List UInt8 := dkwX3_go_3 ++ dktX3_go_4
def dkwX3_go_2 : List UInt8 := [112, 28, 4, 160, 0, 7, 29, 167, 0, 14, 28, 6, 160, 0, 8, 29, 116, 167, 0, 4, 3, 96, 54, 4]
abbrev dktX3_go_2 : List UInt8 := dkwX3_go_2 ++ dktX3_go_3
def dkwX3_go_1 : List UInt8 := [29, 4, 16, 7, 182, 0, 107, 154, 0, 5, 3, 172, 42, 180, 0, 7, 17, 1, 0, 27, 96, 46, 16, 8]
abbrev dktX3_go_1 : List UInt8 := dkwX3_go_1 ++ dktX3_go_2
def dkwX3_go_0 : List UInt8 := [42, 3, 181, 0, 86, 42, 27, 182, 0, 133, 153, 0, 24, 42, 28, 3, 6, 182, 0, 107, 153, 0, 14, 42]
abbrev dktX3_go_0 : List UInt8 := dkwX3_go_0 ++ dktX3_go_1
theorem dksX3_go_0 : cX3_go.data.toList.drop 0 = dktX3_go_0 := by decide +kernel
theorem dksX3_go_1 : cX3_go.data.toList.drop 24 = dktX3_go_1 := dk_seg dksX3_go_0 24 rfl rfl
theorem dksX3_go_2 : cX3_go.data.toList.drop 48 = dktX3_go_2 := dk_seg dksX3_go_1 24 rfl rfl
theorem dksX3_go_3 : cX3_go.data.toList.drop 72 = dktX3_go_3 := dk_seg dksX3_go_2 24 rfl rfl
theorem dksX3_go_4 : cX3_go.data.toList.drop 95 = dktX3_go_4 := dk_seg dksX3_go_3 23 rfl rfl
theorem dksX3_go_5 : cX3_go.data.toList.drop 117 = dktX3_go_5 := dk_seg dksX3_go_4 22 rfl rfl
theorem dksX3_go_6 : cX3_go.data.toList.drop 141 = dktX3_go_6 := dk_seg dksX3_go_5 24 rfl rfl
theorem dX3_go_0 : decode cX3_go 0 = .ok (.aload_n 0, 1) := dk_42 (dk_at dksX3_go_0 0 rfl rfl)
theorem dX3_go_1 : decode cX3_go 1 = .ok (.iconst 0, 1) := dk_3 (dk_at dksX3_go_0 1 rfl rfl)
theorem dX3_go_2 : decode cX3_go 2 = .ok (.putfield 86, 3) := dk_181 0 86 (dk_at dksX3_go_0 2 rfl rfl)
theorem dX3_go_5 : decode cX3_go 5 = .ok (.aload_n 0, 1) := dk_42 (dk_at dksX3_go_0 5 rfl rfl)
theorem dX3_go_6 : decode cX3_go 6 = .ok (.iload_n 1, 1) := dk_27 (dk_at dksX3_go_0 6 rfl rfl)
theorem dX3_go_7 : decode cX3_go 7 = .ok (.invokevirtual 133, 3) := dk_182 0 133 (dk_at dksX3_go_0 7 rfl rfl)
theorem dX3_go_10 : decode cX3_go 10 = .ok (.ifCond .eq 24, 3) := dk_153 0 24 (dk_at dksX3_go_0 10 rfl rfl)
theorem dX3_go_13 : decode cX3_go 13 = .ok (.aload_n 0, 1) := dk_42 (dk_at dksX3_go_0 13 rfl rfl)
theorem dX3_go_14 : decode cX3_go 14 = .ok (.iload_n 2, 1) := dk_28 (dk_at dksX3_go_0 14 rfl rfl)
theorem dX3_go_15 : decode cX3_go 15 = .ok (.iconst 0, 1) := dk_3 (dk_at dksX3_go_0 15 rfl rfl)
theorem dX3_go_16 : decode cX3_go 16 = .ok (.iconst 3, 1) := dk_6 (dk_at dksX3_go_0 16 rfl rfl)
theorem dX3_go_17 : decode cX3_go 17 = .ok (.invokevirtual 107, 3) := dk_182 0 107 (dk_at dksX3_go_0 17 rfl rfl)
theorem dX3_go_20 : decode cX3_go 20 = .ok (.ifCond .eq 14, 3) := dk_153 0 14 (dk_at dksX3_go_0 20 rfl rfl)
theorem dX3_go_23 : decode cX3_go 23 = .ok (.aload_n 0, 1) := dk_42 (dk_at dksX3_go_0 23 rfl rfl)
theorem dX3_go_24 : decode cX3_go 24 = .ok (.iload_n 3, 1) := dk_29 (dk_at dksX3_go_1 0 rfl rfl)
theorem dX3_go_25 : decode cX3_go 25 = .ok (.iconst 1, 1) := dk_4 (dk_at dksX3_go_1 1 rfl rfl)
theorem dX3_go_26 : decode cX3_go 26 = .ok (.bipush 7, 2) := dk_16 7 (dk_at dksX3_go_1 2 rfl rfl)
theorem dX3_go_28 : decode cX3_go 28 = .ok (.invokevirtual 107, 3) := dk_182 0 107 (dk_at dksX3_go_1 4 rfl rfl)
theorem dX3_go_31 : decode cX3_go 31 = .ok (.ifCond .ne 5, 3) := dk_154 0 5 (dk_at dksX3_go_1 7 rfl rfl)
theorem dX3_go_34 : decode cX3_go 34 = .ok (.iconst 0, 1) := dk_3 (dk_at dksX3_go_1 10 rfl rfl)
theorem dX3_go_35 : decode cX3_go 35 = .ok (.ireturn, 1) := dk_172 (dk_at dksX3_go_1 11 rfl rfl)
theorem dX3_go_36 : decode cX3_go 36 = .ok (.aload_n 0, 1) := dk_42 (dk_at dksX3_go_1 12 rfl rfl)
theorem dX3_go_37 : decode cX3_go 37 = .ok (.getfield 7, 3) := dk_180 0 7 (dk_at dksX3_go_1 13 rfl rfl)
theorem dX3_go_40 : decode cX3_go 40 = .ok (.sipush 256, 3) := dk_17 1 0 (dk_at dksX3_go_1 16 rfl rfl)
theorem dX3_go_43 : decode cX3_go 43 = .ok (.iload_n 1, 1) := dk_27 (dk_at dksX3_go_1 19 rfl rfl)
theorem dX3_go_44 : decode cX3_go 44 = .ok (.iadd, 1) := dk_96 (dk_at dksX3_go_1 20 rfl rfl)
theorem dX3_go_45 : decode cX3_go 45 = .ok (.iaload, 1) := dk_46 (dk_at dksX3_go_1 21 rfl rfl)
theorem dX3_go_46 : decode cX3_go 46 = .ok (.bipush 8, 2) := dk_16 8 (dk_at dksX3_go_1 22 rfl rfl)
theorem dX3_go_48 : decode cX3_go 48 = .ok (.irem, 1) := dk_112 (dk_at dksX3_go_2 0 rfl rfl)
theorem dX3_go_49 : decode cX3_go 49 = .ok (.iload_n 2, 1) := dk_28 (dk_at dksX3_go_2 1 rfl rfl)
theorem dX3_go_50 : decode cX3_go 50 = .ok (.iconst 1, 1) := dk_4 (dk_at dksX3_go_2 2 rfl rfl)
theorem dX3_go_51 : decode cX3_go 51 = .ok (.if_icmp .ne 7, 3) := dk_160 0 7 (dk_at dksX3_go_2 3 rfl rfl)
theorem dX3_go_54 : decode cX3_go 54 = .ok (.iload_n 3, 1) := dk_29 (dk_at dksX3_go_2 6 rfl rfl)
theorem dX3_go_55 : decode cX3_go 55 = .ok (.goto 14, 3) := dk_167 0 14 (dk_at dksX3_go_2 7 rfl rfl)
theorem dX3_go_58 : decode cX3_go 58 = .ok (.iload_n 2, 1) := dk_28 (dk_at dksX3_go_2 10 rfl rfl)
theorem dX3_go_59 : decode cX3_go 59 = .ok (.iconst 3, 1) := dk_6 (dk_at dksX3_go_2 11 rfl rfl)
theorem dX3_go_60 : decode cX3_go 60 = .ok (.if_icmp .ne 8, 3) := dk_160 0 8 (dk_at dksX3_go_2 12 rfl rfl)
theorem dX3_go_63 : decode cX3_go 63 = .ok (.iload_n 3, 1) := dk_29 (dk_at dksX3_go_2 15 rfl rfl)
theorem dX3_go_64 : decode cX3_go 64 = .ok (.ineg, 1) := dk_116 (dk_at dksX3_go_2 16 rfl rfl)
theorem dX3_go_65 : decode cX3_go 65 = .ok (.goto 4, 3) := dk_167 0 4 (dk_at dksX3_go_2 17 rfl rfl)
theorem dX3_go_68 : decode cX3_go 68 = .ok (.iconst 0, 1) := dk_3 (dk_at dksX3_go_2 20 rfl rfl)
theorem dX3_go_69 : decode cX3_go 69 = .ok (.iadd, 1) := dk_96 (dk_at dksX3_go_2 21 rfl rfl)
theorem dX3_go_70 : decode cX3_go 70 = .ok (.istore 4, 2) := dk_54 4 (dk_at dksX3_go_2 22 rfl rfl)
theorem dX3_go_72 : decode cX3_go 72 = .ok (.aload_n 0, 1) := dk_42 (dk_at dksX3_go_3 0 rfl rfl)
theorem dX3_go_73 : decode cX3_go 73 = .ok (.getfield 7, 3) := dk_180 0 7 (dk_at dksX3_go_3 1 rfl rfl)
theorem dX3_go_76 : decode cX3_go 76 = .ok (.sipush 256, 3) := dk_17 1 0 (dk_at dksX3_go_3 4 rfl rfl)
theorem dX3_go_79 : decode cX3_go 79 = .ok (.iload_n 1, 1) := dk_27 (dk_at dksX3_go_3 7 rfl rfl)
theorem dX3_go_80 : decode cX3_go 80 = .ok (.iadd, 1) := dk_96 (dk_at dksX3_go_3 8 rfl rfl)
theorem dX3_go_81 : decode cX3_go 81 = .ok (.iaload, 1) := dk_46 (dk_at dksX3_go_3 9 rfl rfl)
theorem dX3_go_82 : decode cX3_go 82 = .ok (.bipush 8, 2) := dk_16 8 (dk_at dksX3_go_3 10 rfl rfl)
theorem dX3_go_84 : decode cX3_go 84 = .ok (.idiv, 1) := dk_108 (dk_at dksX3_go_3 12 rfl rfl)
theorem dX3_go_85 : decode cX3_go 85 = .ok (.iload_n 2, 1) := dk_28 (dk_at dksX3_go_3 13 rfl rfl)
theorem dX3_go_86 : decode cX3_go 86 = .ok (.iconst 2, 1) := dk_5 (dk_at dksX3_go_3 14 rfl rfl)
theorem dX3_go_87 : decode cX3_go 87 = .ok (.if_icmp .ne 7, 3) := dk_160 0 7 (dk_at dksX3_go_3 15 rfl rfl)
theorem dX3_go_90 : decode cX3_go 90 = .ok (.iload_n 3, 1) := dk_29 (dk_at dksX3_go_3 18 rfl rfl)
theorem dX3_go_91 : decode cX3_go 91 = .ok (.goto 13, 3) := dk_167 0 13 (dk_at dksX3_go_3 19 rfl rfl)
theorem dX3_go_94 : decode cX3_go 94 = .ok (.iload_n 2, 1) := dk_28 (dk_at dksX3_go_3 22 rfl rfl)
theorem dX3_go_95 : decode cX3_go 95 = .ok (.ifCond .ne 8, 3) := dk_154 0 8 (dk_at dksX3_go_4 0 rfl rfl)
theorem dX3_go_98 : decode cX3_go 98 = .ok (.iload_n 3, 1) := dk_29 (dk_at dksX3_go_4 3 rfl rfl)
theorem dX3_go_99 : decode cX3_go 99 = .ok (.ineg, 1) := dk_116 (dk_at dksX3_go_4 4 rfl rfl)
theorem dX3_go_100 : decode cX3_go 100 = .ok (.goto 4, 3) := dk_167 0 4 (dk_at dksX3_go_4 5 rfl rfl)
theorem dX3_go_103 : decode cX3_go 103 = .ok (.iconst 0, 1) := dk_3 (dk_at dksX3_go_4 8 rfl rfl)
theorem dX3_go_104 : decode cX3_go 104 = .ok (.iadd, 1) := dk_96 (dk_at dksX3_go_4 9 rfl rfl)
theorem dX3_go_105 : decode cX3_go 105 = .ok (.istore 5, 2) := dk_54 5 (dk_at dksX3_go_4 10 rfl rfl)
theorem dX3_go_107 : decode cX3_go 107 = .ok (.aload_n 0, 1) := dk_42 (dk_at dksX3_go_4 12 rfl rfl)
theorem dX3_go_108 : decode cX3_go 108 = .ok (.iload 4, 2) := dk_21 4 (dk_at dksX3_go_4 13 rfl rfl)
theorem dX3_go_110 : decode cX3_go 110 = .ok (.iconst 0, 1) := dk_3 (dk_at dksX3_go_4 15 rfl rfl)
theorem dX3_go_111 : decode cX3_go 111 = .ok (.aload_n 0, 1) := dk_42 (dk_at dksX3_go_4 16 rfl rfl)
theorem dX3_go_112 : decode cX3_go 112 = .ok (.getfield 16, 3) := dk_180 0 16 (dk_at dksX3_go_4 17 rfl rfl)
theorem dX3_go_115 : decode cX3_go 115 = .ok (.iconst 1, 1) := dk_4 (dk_at dksX3_go_4 20 rfl rfl)
theorem dX3_go_116 : decode cX3_go 116 = .ok (.isub, 1) := dk_100 (dk_at dksX3_go_4 21 rfl rfl)
theorem dX3_go_117 : decode cX3_go 117 = .ok (.invokevirtual 107, 3) := dk_182 0 107 (dk_at dksX3_go_5 0 rfl rfl)
theorem dX3_go_120 : decode cX3_go 120 = .ok (.ifCond .eq 19, 3) := dk_153 0 19 (dk_at dksX3_go_5 3 rfl rfl)
theorem dX3_go_123 : decode cX3_go 123 = .ok (.aload_n 0, 1) := dk_42 (dk_at dksX3_go_5 6 rfl rfl)
theorem dX3_go_124 : decode cX3_go 124 = .ok (.iload 5, 2) := dk_21 5 (dk_at dksX3_go_5 7 rfl rfl)
theorem dX3_go_126 : decode cX3_go 126 = .ok (.iconst 0, 1) := dk_3 (dk_at dksX3_go_5 9 rfl rfl)
theorem dX3_go_127 : decode cX3_go 127 = .ok (.aload_n 0, 1) := dk_42 (dk_at dksX3_go_5 10 rfl rfl)
theorem dX3_go_128 : decode cX3_go 128 = .ok (.getfield 20, 3) := dk_180 0 20 (dk_at dksX3_go_5 11 rfl rfl)
theorem dX3_go_131 : decode cX3_go 131 = .ok (.iconst 1, 1) := dk_4 (dk_at dksX3_go_5 14 rfl rfl)
theorem dX3_go_132 : decode cX3_go 132 = .ok (.isub, 1) := dk_100 (dk_at dksX3_go_5 15 rfl rfl)
theorem dX3_go_133 : decode cX3_go 133 = .ok (.invokevirtual 107, 3) := dk_182 0 107 (dk_at dksX3_go_5 16 rfl rfl)
theorem dX3_go_136 : decode cX3_go 136 = .ok (.ifCond .ne 5, 3) := dk_154 0 5 (dk_at dksX3_go_5 19 rfl rfl)
theorem dX3_go_139 : decode cX3_go 139 = .ok (.iconst 0, 1) := dk_3 (dk_at dksX3_go_5 22 rfl rfl)
theorem dX3_go_140 : decode cX3_go 140 = .ok (.ireturn, 1) := dk_172 (dk_at dksX3_go_5 23 rfl rfl)
theorem dX3_go_141 : decode cX3_go 141 = .ok (.aload_n 0, 1) := dk_42 (dk_at dksX3_go_6 0 rfl rfl)
theorem dX3_go_142 : decode cX3_go 142 = .ok (.invokevirtual 136, 3) := dk_182 0 136 (dk_at dksX3_go_6 1 rfl rfl)
theorem dX3_go_145 : decode cX3_go 145 = .ok (.aload_n 0, 1) := dk_42 (dk_at dksX3_go_6 4 rfl rfl)
theorem dX3_go_146 : decode cX3_go 146 = .ok (.getfield 7, 3) := dk_180 0 7 (dk_at dksX3_go_6 5 rfl rfl)
theorem dX3_go_149 : decode cX3_go 149 = .ok (.sipush 256, 3) := dk_17 1 0 (dk_at dksX3_go_6 8 rfl rfl)
theorem dX3_go_152 : decode cX3_go 152 = .ok (.iload_n 1, 1) := dk_27 (dk_at dksX3_go_6 11 rfl rfl)
theorem dX3_go_153 : decode cX3_go 153 = .ok (.iadd, 1) := dk_96 (dk_at dksX3_go_6 12 rfl rfl)
theorem dX3_go_154 : decode cX3_go 154 = .ok (.bipush 8, 2) := dk_16 8 (dk_at dksX3_go_6 13 rfl rfl)
theorem dX3_go_156 : decode cX3_go 156 = .ok (.iload 5, 2) := dk_21 5 (dk_at dksX3_go_6 15 rfl rfl)
theorem dX3_go_158 : decode cX3_go 158 = .ok (.imul, 1) := dk_104 (dk_at dksX3_go_6 17 rfl rfl)
theorem dX3_go_159 : decode cX3_go 159 = .ok (.iload 4, 2) := dk_21 4 (dk_at dksX3_go_6 18 rfl rfl)
theorem dX3_go_161 : decode cX3_go 161 = .ok (.iadd, 1) := dk_96 (dk_at dksX3_go_6 20 rfl rfl)
theorem dX3_go_162 : decode cX3_go 162 = .ok (.iastore, 1) := dk_79 (dk_at dksX3_go_6 21 rfl rfl)
theorem dX3_go_163 : decode cX3_go 163 = .ok (.iconst 1, 1) := dk_4 (dk_at dksX3_go_6 22 rfl rfl)
theorem dX3_go_164 : decode cX3_go 164 = .ok (.ireturn, 1) := dk_172 (dk_at dksX3_go_6 23 rfl rfl)
abbrev cX3_isPerson : ByteArray := prog_14_method_12_code
def yX3_isPerson : MethodName := ⟨RX3, "isPerson", "(I)Z"⟩
def dkwX3_isPerson_0 : List UInt8 := [27, 155, 0, 15, 27, 42, 180, 0, 100, 162, 0, 7, 4, 167, 0, 4, 3, 172]
abbrev dktX3_isPerson_0 : List UInt8 := dkwX3_isPerson_0 ++ []
theorem dksX3_isPerson_0 : cX3_isPerson.data.toList.drop 0 = dktX3_isPerson_0 := by decide +kernel
theorem dX3_isPerson_0 : decode cX3_isPerson 0 = .ok (.iload_n 1, 1) := dk_27 (dk_at dksX3_isPerson_0 0 rfl rfl)
theorem dX3_isPerson_1 : decode cX3_isPerson 1 = .ok (.ifCond .lt 15, 3) := dk_155 0 15 (dk_at dksX3_isPerson_0 1 rfl rfl)
theorem dX3_isPerson_4 : decode cX3_isPerson 4 = .ok (.iload_n 1, 1) := dk_27 (dk_at dksX3_isPerson_0 4 rfl rfl)
theorem dX3_isPerson_5 : decode cX3_isPerson 5 = .ok (.aload_n 0, 1) := dk_42 (dk_at dksX3_isPerson_0 5 rfl rfl)
theorem dX3_isPerson_6 : decode cX3_isPerson 6 = .ok (.getfield 100, 3) := dk_180 0 100 (dk_at dksX3_isPerson_0 6 rfl rfl)
theorem dX3_isPerson_9 : decode cX3_isPerson 9 = .ok (.if_icmp .ge 7, 3) := dk_162 0 7 (dk_at dksX3_isPerson_0 9 rfl rfl)
theorem dX3_isPerson_12 : decode cX3_isPerson 12 = .ok (.iconst 1, 1) := dk_4 (dk_at dksX3_isPerson_0 12 rfl rfl)
theorem dX3_isPerson_13 : decode cX3_isPerson 13 = .ok (.goto 4, 3) := dk_167 0 4 (dk_at dksX3_isPerson_0 13 rfl rfl)
theorem dX3_isPerson_16 : decode cX3_isPerson 16 = .ok (.iconst 0, 1) := dk_3 (dk_at dksX3_isPerson_0 16 rfl rfl)
theorem dX3_isPerson_17 : decode cX3_isPerson 17 = .ok (.ireturn, 1) := dk_172 (dk_at dksX3_isPerson_0 17 rfl rfl)
abbrev cX3_keepsAhead : ByteArray := prog_14_method_6_code
def yX3_keepsAhead : MethodName := ⟨RX3, "keepsAhead", "()V"⟩
def dkwX3_keepsAhead_4 : List UInt8 := [42, 180, 0, 89, 4, 96, 181, 0, 89, 177]
abbrev dktX3_keepsAhead_4 : List UInt8 := dkwX3_keepsAhead_4 ++ []
def dkwX3_keepsAhead_3 : List UInt8 := [17, 1, 92, 42, 180, 0, 89, 104, 27, 96, 42, 180, 0, 7, 27, 46, 79, 132, 1, 1, 167, 255, 225, 42]
abbrev dktX3_keepsAhead_3 : List UInt8 := dkwX3_keepsAhead_3 ++ dktX3_keepsAhead_4
def dkwX3_keepsAhead_2 : List UInt8 := [96, 46, 79, 132, 1, 1, 167, 255, 225, 3, 60, 27, 17, 1, 92, 162, 0, 30, 42, 180, 0, 13]
abbrev dktX3_keepsAhead_2 : List UInt8 := dkwX3_keepsAhead_2 ++ dktX3_keepsAhead_3
def dkwX3_keepsAhead_1 : List UInt8 := [17, 1, 92, 42, 180, 0, 89, 104, 162, 0, 25, 42, 180, 0, 13, 27, 42, 180, 0, 13, 27, 17, 1, 92]
abbrev dktX3_keepsAhead_1 : List UInt8 := dkwX3_keepsAhead_1 ++ dktX3_keepsAhead_2
def dkwX3_keepsAhead_0 : List UInt8 := [42, 180, 0, 89, 16, 12, 160, 0, 49, 42, 42, 180, 0, 89, 4, 100, 181, 0, 89, 3, 60, 27]
abbrev dktX3_keepsAhead_0 : List UInt8 := dkwX3_keepsAhead_0 ++ dktX3_keepsAhead_1
theorem dksX3_keepsAhead_0 : cX3_keepsAhead.data.toList.drop 0 = dktX3_keepsAhead_0 := by decide +kernel
theorem dksX3_keepsAhead_1 : cX3_keepsAhead.data.toList.drop 22 = dktX3_keepsAhead_1 := dk_seg dksX3_keepsAhead_0 22 rfl rfl
theorem dksX3_keepsAhead_2 : cX3_keepsAhead.data.toList.drop 46 = dktX3_keepsAhead_2 := dk_seg dksX3_keepsAhead_1 24 rfl rfl
theorem dksX3_keepsAhead_3 : cX3_keepsAhead.data.toList.drop 68 = dktX3_keepsAhead_3 := dk_seg dksX3_keepsAhead_2 22 rfl rfl
theorem dksX3_keepsAhead_4 : cX3_keepsAhead.data.toList.drop 92 = dktX3_keepsAhead_4 := dk_seg dksX3_keepsAhead_3 24 rfl rfl
theorem dX3_keepsAhead_0 : decode cX3_keepsAhead 0 = .ok (.aload_n 0, 1) := dk_42 (dk_at dksX3_keepsAhead_0 0 rfl rfl)
theorem dX3_keepsAhead_1 : decode cX3_keepsAhead 1 = .ok (.getfield 89, 3) := dk_180 0 89 (dk_at dksX3_keepsAhead_0 1 rfl rfl)
theorem dX3_keepsAhead_4 : decode cX3_keepsAhead 4 = .ok (.bipush 12, 2) := dk_16 12 (dk_at dksX3_keepsAhead_0 4 rfl rfl)
theorem dX3_keepsAhead_6 : decode cX3_keepsAhead 6 = .ok (.if_icmp .ne 49, 3) := dk_160 0 49 (dk_at dksX3_keepsAhead_0 6 rfl rfl)
theorem dX3_keepsAhead_9 : decode cX3_keepsAhead 9 = .ok (.aload_n 0, 1) := dk_42 (dk_at dksX3_keepsAhead_0 9 rfl rfl)
theorem dX3_keepsAhead_10 : decode cX3_keepsAhead 10 = .ok (.aload_n 0, 1) := dk_42 (dk_at dksX3_keepsAhead_0 10 rfl rfl)
theorem dX3_keepsAhead_11 : decode cX3_keepsAhead 11 = .ok (.getfield 89, 3) := dk_180 0 89 (dk_at dksX3_keepsAhead_0 11 rfl rfl)
theorem dX3_keepsAhead_14 : decode cX3_keepsAhead 14 = .ok (.iconst 1, 1) := dk_4 (dk_at dksX3_keepsAhead_0 14 rfl rfl)
theorem dX3_keepsAhead_15 : decode cX3_keepsAhead 15 = .ok (.isub, 1) := dk_100 (dk_at dksX3_keepsAhead_0 15 rfl rfl)
theorem dX3_keepsAhead_16 : decode cX3_keepsAhead 16 = .ok (.putfield 89, 3) := dk_181 0 89 (dk_at dksX3_keepsAhead_0 16 rfl rfl)
theorem dX3_keepsAhead_19 : decode cX3_keepsAhead 19 = .ok (.iconst 0, 1) := dk_3 (dk_at dksX3_keepsAhead_0 19 rfl rfl)
theorem dX3_keepsAhead_20 : decode cX3_keepsAhead 20 = .ok (.istore_n 1, 1) := dk_60 (dk_at dksX3_keepsAhead_0 20 rfl rfl)
theorem dX3_keepsAhead_21 : decode cX3_keepsAhead 21 = .ok (.iload_n 1, 1) := dk_27 (dk_at dksX3_keepsAhead_0 21 rfl rfl)
theorem dX3_keepsAhead_22 : decode cX3_keepsAhead 22 = .ok (.sipush 348, 3) := dk_17 1 92 (dk_at dksX3_keepsAhead_1 0 rfl rfl)
theorem dX3_keepsAhead_25 : decode cX3_keepsAhead 25 = .ok (.aload_n 0, 1) := dk_42 (dk_at dksX3_keepsAhead_1 3 rfl rfl)
theorem dX3_keepsAhead_26 : decode cX3_keepsAhead 26 = .ok (.getfield 89, 3) := dk_180 0 89 (dk_at dksX3_keepsAhead_1 4 rfl rfl)
theorem dX3_keepsAhead_29 : decode cX3_keepsAhead 29 = .ok (.imul, 1) := dk_104 (dk_at dksX3_keepsAhead_1 7 rfl rfl)
theorem dX3_keepsAhead_30 : decode cX3_keepsAhead 30 = .ok (.if_icmp .ge 25, 3) := dk_162 0 25 (dk_at dksX3_keepsAhead_1 8 rfl rfl)
theorem dX3_keepsAhead_33 : decode cX3_keepsAhead 33 = .ok (.aload_n 0, 1) := dk_42 (dk_at dksX3_keepsAhead_1 11 rfl rfl)
theorem dX3_keepsAhead_34 : decode cX3_keepsAhead 34 = .ok (.getfield 13, 3) := dk_180 0 13 (dk_at dksX3_keepsAhead_1 12 rfl rfl)
theorem dX3_keepsAhead_37 : decode cX3_keepsAhead 37 = .ok (.iload_n 1, 1) := dk_27 (dk_at dksX3_keepsAhead_1 15 rfl rfl)
theorem dX3_keepsAhead_38 : decode cX3_keepsAhead 38 = .ok (.aload_n 0, 1) := dk_42 (dk_at dksX3_keepsAhead_1 16 rfl rfl)
theorem dX3_keepsAhead_39 : decode cX3_keepsAhead 39 = .ok (.getfield 13, 3) := dk_180 0 13 (dk_at dksX3_keepsAhead_1 17 rfl rfl)
theorem dX3_keepsAhead_42 : decode cX3_keepsAhead 42 = .ok (.iload_n 1, 1) := dk_27 (dk_at dksX3_keepsAhead_1 20 rfl rfl)
theorem dX3_keepsAhead_43 : decode cX3_keepsAhead 43 = .ok (.sipush 348, 3) := dk_17 1 92 (dk_at dksX3_keepsAhead_1 21 rfl rfl)
theorem dX3_keepsAhead_46 : decode cX3_keepsAhead 46 = .ok (.iadd, 1) := dk_96 (dk_at dksX3_keepsAhead_2 0 rfl rfl)
theorem dX3_keepsAhead_47 : decode cX3_keepsAhead 47 = .ok (.iaload, 1) := dk_46 (dk_at dksX3_keepsAhead_2 1 rfl rfl)
theorem dX3_keepsAhead_48 : decode cX3_keepsAhead 48 = .ok (.iastore, 1) := dk_79 (dk_at dksX3_keepsAhead_2 2 rfl rfl)
theorem dX3_keepsAhead_49 : decode cX3_keepsAhead 49 = .ok (.iinc 1 1, 3) := dk_132 1 1 (dk_at dksX3_keepsAhead_2 3 rfl rfl)
theorem dX3_keepsAhead_52 : decode cX3_keepsAhead 52 = .ok (.goto (-31), 3) := dk_167 255 225 (dk_at dksX3_keepsAhead_2 6 rfl rfl)
theorem dX3_keepsAhead_55 : decode cX3_keepsAhead 55 = .ok (.iconst 0, 1) := dk_3 (dk_at dksX3_keepsAhead_2 9 rfl rfl)
theorem dX3_keepsAhead_56 : decode cX3_keepsAhead 56 = .ok (.istore_n 1, 1) := dk_60 (dk_at dksX3_keepsAhead_2 10 rfl rfl)
theorem dX3_keepsAhead_57 : decode cX3_keepsAhead 57 = .ok (.iload_n 1, 1) := dk_27 (dk_at dksX3_keepsAhead_2 11 rfl rfl)
theorem dX3_keepsAhead_58 : decode cX3_keepsAhead 58 = .ok (.sipush 348, 3) := dk_17 1 92 (dk_at dksX3_keepsAhead_2 12 rfl rfl)
theorem dX3_keepsAhead_61 : decode cX3_keepsAhead 61 = .ok (.if_icmp .ge 30, 3) := dk_162 0 30 (dk_at dksX3_keepsAhead_2 15 rfl rfl)
theorem dX3_keepsAhead_64 : decode cX3_keepsAhead 64 = .ok (.aload_n 0, 1) := dk_42 (dk_at dksX3_keepsAhead_2 18 rfl rfl)
theorem dX3_keepsAhead_65 : decode cX3_keepsAhead 65 = .ok (.getfield 13, 3) := dk_180 0 13 (dk_at dksX3_keepsAhead_2 19 rfl rfl)
theorem dX3_keepsAhead_68 : decode cX3_keepsAhead 68 = .ok (.sipush 348, 3) := dk_17 1 92 (dk_at dksX3_keepsAhead_3 0 rfl rfl)
theorem dX3_keepsAhead_71 : decode cX3_keepsAhead 71 = .ok (.aload_n 0, 1) := dk_42 (dk_at dksX3_keepsAhead_3 3 rfl rfl)
theorem dX3_keepsAhead_72 : decode cX3_keepsAhead 72 = .ok (.getfield 89, 3) := dk_180 0 89 (dk_at dksX3_keepsAhead_3 4 rfl rfl)
theorem dX3_keepsAhead_75 : decode cX3_keepsAhead 75 = .ok (.imul, 1) := dk_104 (dk_at dksX3_keepsAhead_3 7 rfl rfl)
theorem dX3_keepsAhead_76 : decode cX3_keepsAhead 76 = .ok (.iload_n 1, 1) := dk_27 (dk_at dksX3_keepsAhead_3 8 rfl rfl)
theorem dX3_keepsAhead_77 : decode cX3_keepsAhead 77 = .ok (.iadd, 1) := dk_96 (dk_at dksX3_keepsAhead_3 9 rfl rfl)
theorem dX3_keepsAhead_78 : decode cX3_keepsAhead 78 = .ok (.aload_n 0, 1) := dk_42 (dk_at dksX3_keepsAhead_3 10 rfl rfl)
theorem dX3_keepsAhead_79 : decode cX3_keepsAhead 79 = .ok (.getfield 7, 3) := dk_180 0 7 (dk_at dksX3_keepsAhead_3 11 rfl rfl)
theorem dX3_keepsAhead_82 : decode cX3_keepsAhead 82 = .ok (.iload_n 1, 1) := dk_27 (dk_at dksX3_keepsAhead_3 14 rfl rfl)
theorem dX3_keepsAhead_83 : decode cX3_keepsAhead 83 = .ok (.iaload, 1) := dk_46 (dk_at dksX3_keepsAhead_3 15 rfl rfl)
theorem dX3_keepsAhead_84 : decode cX3_keepsAhead 84 = .ok (.iastore, 1) := dk_79 (dk_at dksX3_keepsAhead_3 16 rfl rfl)
theorem dX3_keepsAhead_85 : decode cX3_keepsAhead 85 = .ok (.iinc 1 1, 3) := dk_132 1 1 (dk_at dksX3_keepsAhead_3 17 rfl rfl)
theorem dX3_keepsAhead_88 : decode cX3_keepsAhead 88 = .ok (.goto (-31), 3) := dk_167 255 225 (dk_at dksX3_keepsAhead_3 20 rfl rfl)
theorem dX3_keepsAhead_91 : decode cX3_keepsAhead 91 = .ok (.aload_n 0, 1) := dk_42 (dk_at dksX3_keepsAhead_3 23 rfl rfl)
theorem dX3_keepsAhead_92 : decode cX3_keepsAhead 92 = .ok (.aload_n 0, 1) := dk_42 (dk_at dksX3_keepsAhead_4 0 rfl rfl)
theorem dX3_keepsAhead_93 : decode cX3_keepsAhead 93 = .ok (.getfield 89, 3) := dk_180 0 89 (dk_at dksX3_keepsAhead_4 1 rfl rfl)
theorem dX3_keepsAhead_96 : decode cX3_keepsAhead 96 = .ok (.iconst 1, 1) := dk_4 (dk_at dksX3_keepsAhead_4 4 rfl rfl)
theorem dX3_keepsAhead_97 : decode cX3_keepsAhead 97 = .ok (.iadd, 1) := dk_96 (dk_at dksX3_keepsAhead_4 5 rfl rfl)
theorem dX3_keepsAhead_98 : decode cX3_keepsAhead 98 = .ok (.putfield 89, 3) := dk_181 0 89 (dk_at dksX3_keepsAhead_4 6 rfl rfl)
theorem dX3_keepsAhead_101 : decode cX3_keepsAhead 101 = .ok (.return_, 1) := dk_177 (dk_at dksX3_keepsAhead_4 9 rfl rfl)
abbrev cX3_breaks : ByteArray := prog_14_method_21_code
def yX3_breaks : MethodName := ⟨RX3, "breaks", "(II)Z"⟩
def dkwX3_breaks_5 : List UInt8 := [182, 0, 142, 4, 172]
abbrev dktX3_breaks_5 : List UInt8 := dkwX3_breaks_5 ++ []
def dkwX3_breaks_4 : List UInt8 := [29, 96, 42, 180, 0, 123, 79, 42, 180, 0, 7, 17, 0, 192, 29, 96, 27, 79, 42, 27, 29, 28]
abbrev dktX3_breaks_4 : List UInt8 := dkwX3_breaks_4 ++ dktX3_breaks_5
def dkwX3_breaks_3 : List UInt8 := [3, 29, 96, 28, 4, 96, 79, 42, 180, 0, 7, 16, 64, 29, 96, 3, 79, 42, 180, 0, 7, 17, 0, 128]
abbrev dktX3_breaks_3 : List UInt8 := dkwX3_breaks_3 ++ dktX3_breaks_4
def dkwX3_breaks_2 : List UInt8 := [158, 0, 5, 3, 172, 42, 182, 0, 136, 42, 180, 0, 7, 17, 1, 0, 27, 96, 46, 62, 42, 180, 0, 7]
abbrev dktX3_breaks_2 : List UInt8 := dkwX3_breaks_2 ++ dktX3_breaks_3
def dkwX3_breaks_1 : List UInt8 := [180, 0, 120, 4, 159, 0, 23, 42, 180, 0, 7, 3, 42, 180, 0, 7, 17, 1, 0, 27, 96, 46, 96, 46]
abbrev dktX3_breaks_1 : List UInt8 := dkwX3_breaks_1 ++ dktX3_breaks_2
def dkwX3_breaks_0 : List UInt8 := [42, 3, 181, 0, 86, 42, 27, 182, 0, 133, 153, 0, 39, 42, 28, 182, 0, 139, 153, 0, 31, 42]
abbrev dktX3_breaks_0 : List UInt8 := dkwX3_breaks_0 ++ dktX3_breaks_1
theorem dksX3_breaks_0 : cX3_breaks.data.toList.drop 0 = dktX3_breaks_0 := by decide +kernel
theorem dksX3_breaks_1 : cX3_breaks.data.toList.drop 22 = dktX3_breaks_1 := dk_seg dksX3_breaks_0 22 rfl rfl
theorem dksX3_breaks_2 : cX3_breaks.data.toList.drop 46 = dktX3_breaks_2 := dk_seg dksX3_breaks_1 24 rfl rfl
theorem dksX3_breaks_3 : cX3_breaks.data.toList.drop 70 = dktX3_breaks_3 := dk_seg dksX3_breaks_2 24 rfl rfl
theorem dksX3_breaks_4 : cX3_breaks.data.toList.drop 94 = dktX3_breaks_4 := dk_seg dksX3_breaks_3 24 rfl rfl
theorem dksX3_breaks_5 : cX3_breaks.data.toList.drop 116 = dktX3_breaks_5 := dk_seg dksX3_breaks_4 22 rfl rfl
theorem dX3_breaks_0 : decode cX3_breaks 0 = .ok (.aload_n 0, 1) := dk_42 (dk_at dksX3_breaks_0 0 rfl rfl)
theorem dX3_breaks_1 : decode cX3_breaks 1 = .ok (.iconst 0, 1) := dk_3 (dk_at dksX3_breaks_0 1 rfl rfl)
theorem dX3_breaks_2 : decode cX3_breaks 2 = .ok (.putfield 86, 3) := dk_181 0 86 (dk_at dksX3_breaks_0 2 rfl rfl)
theorem dX3_breaks_5 : decode cX3_breaks 5 = .ok (.aload_n 0, 1) := dk_42 (dk_at dksX3_breaks_0 5 rfl rfl)
theorem dX3_breaks_6 : decode cX3_breaks 6 = .ok (.iload_n 1, 1) := dk_27 (dk_at dksX3_breaks_0 6 rfl rfl)
theorem dX3_breaks_7 : decode cX3_breaks 7 = .ok (.invokevirtual 133, 3) := dk_182 0 133 (dk_at dksX3_breaks_0 7 rfl rfl)
theorem dX3_breaks_10 : decode cX3_breaks 10 = .ok (.ifCond .eq 39, 3) := dk_153 0 39 (dk_at dksX3_breaks_0 10 rfl rfl)
theorem dX3_breaks_13 : decode cX3_breaks 13 = .ok (.aload_n 0, 1) := dk_42 (dk_at dksX3_breaks_0 13 rfl rfl)
theorem dX3_breaks_14 : decode cX3_breaks 14 = .ok (.iload_n 2, 1) := dk_28 (dk_at dksX3_breaks_0 14 rfl rfl)
theorem dX3_breaks_15 : decode cX3_breaks 15 = .ok (.invokevirtual 139, 3) := dk_182 0 139 (dk_at dksX3_breaks_0 15 rfl rfl)
theorem dX3_breaks_18 : decode cX3_breaks 18 = .ok (.ifCond .eq 31, 3) := dk_153 0 31 (dk_at dksX3_breaks_0 18 rfl rfl)
theorem dX3_breaks_21 : decode cX3_breaks 21 = .ok (.aload_n 0, 1) := dk_42 (dk_at dksX3_breaks_0 21 rfl rfl)
theorem dX3_breaks_22 : decode cX3_breaks 22 = .ok (.getfield 120, 3) := dk_180 0 120 (dk_at dksX3_breaks_1 0 rfl rfl)
theorem dX3_breaks_25 : decode cX3_breaks 25 = .ok (.iconst 1, 1) := dk_4 (dk_at dksX3_breaks_1 3 rfl rfl)
theorem dX3_breaks_26 : decode cX3_breaks 26 = .ok (.if_icmp .eq 23, 3) := dk_159 0 23 (dk_at dksX3_breaks_1 4 rfl rfl)
theorem dX3_breaks_29 : decode cX3_breaks 29 = .ok (.aload_n 0, 1) := dk_42 (dk_at dksX3_breaks_1 7 rfl rfl)
theorem dX3_breaks_30 : decode cX3_breaks 30 = .ok (.getfield 7, 3) := dk_180 0 7 (dk_at dksX3_breaks_1 8 rfl rfl)
theorem dX3_breaks_33 : decode cX3_breaks 33 = .ok (.iconst 0, 1) := dk_3 (dk_at dksX3_breaks_1 11 rfl rfl)
theorem dX3_breaks_34 : decode cX3_breaks 34 = .ok (.aload_n 0, 1) := dk_42 (dk_at dksX3_breaks_1 12 rfl rfl)
theorem dX3_breaks_35 : decode cX3_breaks 35 = .ok (.getfield 7, 3) := dk_180 0 7 (dk_at dksX3_breaks_1 13 rfl rfl)
theorem dX3_breaks_38 : decode cX3_breaks 38 = .ok (.sipush 256, 3) := dk_17 1 0 (dk_at dksX3_breaks_1 16 rfl rfl)
theorem dX3_breaks_41 : decode cX3_breaks 41 = .ok (.iload_n 1, 1) := dk_27 (dk_at dksX3_breaks_1 19 rfl rfl)
theorem dX3_breaks_42 : decode cX3_breaks 42 = .ok (.iadd, 1) := dk_96 (dk_at dksX3_breaks_1 20 rfl rfl)
theorem dX3_breaks_43 : decode cX3_breaks 43 = .ok (.iaload, 1) := dk_46 (dk_at dksX3_breaks_1 21 rfl rfl)
theorem dX3_breaks_44 : decode cX3_breaks 44 = .ok (.iadd, 1) := dk_96 (dk_at dksX3_breaks_1 22 rfl rfl)
theorem dX3_breaks_45 : decode cX3_breaks 45 = .ok (.iaload, 1) := dk_46 (dk_at dksX3_breaks_1 23 rfl rfl)
theorem dX3_breaks_46 : decode cX3_breaks 46 = .ok (.ifCond .le 5, 3) := dk_158 0 5 (dk_at dksX3_breaks_2 0 rfl rfl)
theorem dX3_breaks_49 : decode cX3_breaks 49 = .ok (.iconst 0, 1) := dk_3 (dk_at dksX3_breaks_2 3 rfl rfl)
theorem dX3_breaks_50 : decode cX3_breaks 50 = .ok (.ireturn, 1) := dk_172 (dk_at dksX3_breaks_2 4 rfl rfl)
theorem dX3_breaks_51 : decode cX3_breaks 51 = .ok (.aload_n 0, 1) := dk_42 (dk_at dksX3_breaks_2 5 rfl rfl)
theorem dX3_breaks_52 : decode cX3_breaks 52 = .ok (.invokevirtual 136, 3) := dk_182 0 136 (dk_at dksX3_breaks_2 6 rfl rfl)
theorem dX3_breaks_55 : decode cX3_breaks 55 = .ok (.aload_n 0, 1) := dk_42 (dk_at dksX3_breaks_2 9 rfl rfl)
theorem dX3_breaks_56 : decode cX3_breaks 56 = .ok (.getfield 7, 3) := dk_180 0 7 (dk_at dksX3_breaks_2 10 rfl rfl)
theorem dX3_breaks_59 : decode cX3_breaks 59 = .ok (.sipush 256, 3) := dk_17 1 0 (dk_at dksX3_breaks_2 13 rfl rfl)
theorem dX3_breaks_62 : decode cX3_breaks 62 = .ok (.iload_n 1, 1) := dk_27 (dk_at dksX3_breaks_2 16 rfl rfl)
theorem dX3_breaks_63 : decode cX3_breaks 63 = .ok (.iadd, 1) := dk_96 (dk_at dksX3_breaks_2 17 rfl rfl)
theorem dX3_breaks_64 : decode cX3_breaks 64 = .ok (.iaload, 1) := dk_46 (dk_at dksX3_breaks_2 18 rfl rfl)
theorem dX3_breaks_65 : decode cX3_breaks 65 = .ok (.istore_n 3, 1) := dk_62 (dk_at dksX3_breaks_2 19 rfl rfl)
theorem dX3_breaks_66 : decode cX3_breaks 66 = .ok (.aload_n 0, 1) := dk_42 (dk_at dksX3_breaks_2 20 rfl rfl)
theorem dX3_breaks_67 : decode cX3_breaks 67 = .ok (.getfield 7, 3) := dk_180 0 7 (dk_at dksX3_breaks_2 21 rfl rfl)
theorem dX3_breaks_70 : decode cX3_breaks 70 = .ok (.iconst 0, 1) := dk_3 (dk_at dksX3_breaks_3 0 rfl rfl)
theorem dX3_breaks_71 : decode cX3_breaks 71 = .ok (.iload_n 3, 1) := dk_29 (dk_at dksX3_breaks_3 1 rfl rfl)
theorem dX3_breaks_72 : decode cX3_breaks 72 = .ok (.iadd, 1) := dk_96 (dk_at dksX3_breaks_3 2 rfl rfl)
theorem dX3_breaks_73 : decode cX3_breaks 73 = .ok (.iload_n 2, 1) := dk_28 (dk_at dksX3_breaks_3 3 rfl rfl)
theorem dX3_breaks_74 : decode cX3_breaks 74 = .ok (.iconst 1, 1) := dk_4 (dk_at dksX3_breaks_3 4 rfl rfl)
theorem dX3_breaks_75 : decode cX3_breaks 75 = .ok (.iadd, 1) := dk_96 (dk_at dksX3_breaks_3 5 rfl rfl)
theorem dX3_breaks_76 : decode cX3_breaks 76 = .ok (.iastore, 1) := dk_79 (dk_at dksX3_breaks_3 6 rfl rfl)
theorem dX3_breaks_77 : decode cX3_breaks 77 = .ok (.aload_n 0, 1) := dk_42 (dk_at dksX3_breaks_3 7 rfl rfl)
theorem dX3_breaks_78 : decode cX3_breaks 78 = .ok (.getfield 7, 3) := dk_180 0 7 (dk_at dksX3_breaks_3 8 rfl rfl)
theorem dX3_breaks_81 : decode cX3_breaks 81 = .ok (.bipush 64, 2) := dk_16 64 (dk_at dksX3_breaks_3 11 rfl rfl)
theorem dX3_breaks_83 : decode cX3_breaks 83 = .ok (.iload_n 3, 1) := dk_29 (dk_at dksX3_breaks_3 13 rfl rfl)
theorem dX3_breaks_84 : decode cX3_breaks 84 = .ok (.iadd, 1) := dk_96 (dk_at dksX3_breaks_3 14 rfl rfl)
theorem dX3_breaks_85 : decode cX3_breaks 85 = .ok (.iconst 0, 1) := dk_3 (dk_at dksX3_breaks_3 15 rfl rfl)
theorem dX3_breaks_86 : decode cX3_breaks 86 = .ok (.iastore, 1) := dk_79 (dk_at dksX3_breaks_3 16 rfl rfl)
theorem dX3_breaks_87 : decode cX3_breaks 87 = .ok (.aload_n 0, 1) := dk_42 (dk_at dksX3_breaks_3 17 rfl rfl)
theorem dX3_breaks_88 : decode cX3_breaks 88 = .ok (.getfield 7, 3) := dk_180 0 7 (dk_at dksX3_breaks_3 18 rfl rfl)
theorem dX3_breaks_91 : decode cX3_breaks 91 = .ok (.sipush 128, 3) := dk_17 0 128 (dk_at dksX3_breaks_3 21 rfl rfl)
theorem dX3_breaks_94 : decode cX3_breaks 94 = .ok (.iload_n 3, 1) := dk_29 (dk_at dksX3_breaks_4 0 rfl rfl)
theorem dX3_breaks_95 : decode cX3_breaks 95 = .ok (.iadd, 1) := dk_96 (dk_at dksX3_breaks_4 1 rfl rfl)
theorem dX3_breaks_96 : decode cX3_breaks 96 = .ok (.aload_n 0, 1) := dk_42 (dk_at dksX3_breaks_4 2 rfl rfl)
theorem dX3_breaks_97 : decode cX3_breaks 97 = .ok (.getfield 123, 3) := dk_180 0 123 (dk_at dksX3_breaks_4 3 rfl rfl)
theorem dX3_breaks_100 : decode cX3_breaks 100 = .ok (.iastore, 1) := dk_79 (dk_at dksX3_breaks_4 6 rfl rfl)
theorem dX3_breaks_101 : decode cX3_breaks 101 = .ok (.aload_n 0, 1) := dk_42 (dk_at dksX3_breaks_4 7 rfl rfl)
theorem dX3_breaks_102 : decode cX3_breaks 102 = .ok (.getfield 7, 3) := dk_180 0 7 (dk_at dksX3_breaks_4 8 rfl rfl)
theorem dX3_breaks_105 : decode cX3_breaks 105 = .ok (.sipush 192, 3) := dk_17 0 192 (dk_at dksX3_breaks_4 11 rfl rfl)
theorem dX3_breaks_108 : decode cX3_breaks 108 = .ok (.iload_n 3, 1) := dk_29 (dk_at dksX3_breaks_4 14 rfl rfl)
theorem dX3_breaks_109 : decode cX3_breaks 109 = .ok (.iadd, 1) := dk_96 (dk_at dksX3_breaks_4 15 rfl rfl)
theorem dX3_breaks_110 : decode cX3_breaks 110 = .ok (.iload_n 1, 1) := dk_27 (dk_at dksX3_breaks_4 16 rfl rfl)
theorem dX3_breaks_111 : decode cX3_breaks 111 = .ok (.iastore, 1) := dk_79 (dk_at dksX3_breaks_4 17 rfl rfl)
theorem dX3_breaks_112 : decode cX3_breaks 112 = .ok (.aload_n 0, 1) := dk_42 (dk_at dksX3_breaks_4 18 rfl rfl)
theorem dX3_breaks_113 : decode cX3_breaks 113 = .ok (.iload_n 1, 1) := dk_27 (dk_at dksX3_breaks_4 19 rfl rfl)
theorem dX3_breaks_114 : decode cX3_breaks 114 = .ok (.iload_n 3, 1) := dk_29 (dk_at dksX3_breaks_4 20 rfl rfl)
theorem dX3_breaks_115 : decode cX3_breaks 115 = .ok (.iload_n 2, 1) := dk_28 (dk_at dksX3_breaks_4 21 rfl rfl)
theorem dX3_breaks_116 : decode cX3_breaks 116 = .ok (.invokevirtual 142, 3) := dk_182 0 142 (dk_at dksX3_breaks_5 0 rfl rfl)
theorem dX3_breaks_119 : decode cX3_breaks 119 = .ok (.iconst 1, 1) := dk_4 (dk_at dksX3_breaks_5 3 rfl rfl)
theorem dX3_breaks_120 : decode cX3_breaks 120 = .ok (.ireturn, 1) := dk_172 (dk_at dksX3_breaks_5 4 rfl rfl)
abbrev cX3_isWordNumber : ByteArray := prog_14_method_11_code
def yX3_isWordNumber : MethodName := ⟨RX3, "isWordNumber", "(I)Z"⟩
def dkwX3_isWordNumber_0 : List UInt8 := [27, 155, 0, 15, 27, 42, 180, 0, 97, 162, 0, 7, 4, 167, 0, 4, 3, 172]
abbrev dktX3_isWordNumber_0 : List UInt8 := dkwX3_isWordNumber_0 ++ []
theorem dksX3_isWordNumber_0 : cX3_isWordNumber.data.toList.drop 0 = dktX3_isWordNumber_0 := by decide +kernel
theorem dX3_isWordNumber_0 : decode cX3_isWordNumber 0 = .ok (.iload_n 1, 1) := dk_27 (dk_at dksX3_isWordNumber_0 0 rfl rfl)
theorem dX3_isWordNumber_1 : decode cX3_isWordNumber 1 = .ok (.ifCond .lt 15, 3) := dk_155 0 15 (dk_at dksX3_isWordNumber_0 1 rfl rfl)
theorem dX3_isWordNumber_4 : decode cX3_isWordNumber 4 = .ok (.iload_n 1, 1) := dk_27 (dk_at dksX3_isWordNumber_0 4 rfl rfl)
theorem dX3_isWordNumber_5 : decode cX3_isWordNumber 5 = .ok (.aload_n 0, 1) := dk_42 (dk_at dksX3_isWordNumber_0 5 rfl rfl)
theorem dX3_isWordNumber_6 : decode cX3_isWordNumber 6 = .ok (.getfield 97, 3) := dk_180 0 97 (dk_at dksX3_isWordNumber_0 6 rfl rfl)
theorem dX3_isWordNumber_9 : decode cX3_isWordNumber 9 = .ok (.if_icmp .ge 7, 3) := dk_162 0 7 (dk_at dksX3_isWordNumber_0 9 rfl rfl)
theorem dX3_isWordNumber_12 : decode cX3_isWordNumber 12 = .ok (.iconst 1, 1) := dk_4 (dk_at dksX3_isWordNumber_0 12 rfl rfl)
theorem dX3_isWordNumber_13 : decode cX3_isWordNumber 13 = .ok (.goto 4, 3) := dk_167 0 4 (dk_at dksX3_isWordNumber_0 13 rfl rfl)
theorem dX3_isWordNumber_16 : decode cX3_isWordNumber 16 = .ok (.iconst 0, 1) := dk_3 (dk_at dksX3_isWordNumber_0 16 rfl rfl)
theorem dX3_isWordNumber_17 : decode cX3_isWordNumber 17 = .ok (.ireturn, 1) := dk_172 (dk_at dksX3_isWordNumber_0 17 rfl rfl)
abbrev cX3_notes : ByteArray := prog_14_method_20_code
def yX3_notes : MethodName := ⟨RX3, "notes", "(III)V"⟩
def dkwX3_notes_3 : List UInt8 := [17, 1, 91, 21, 4, 4, 96, 79, 177]
abbrev dktX3_notes_3 : List UInt8 := dkwX3_notes_3 ++ []
def dkwX3_notes_2 : List UInt8 := [104, 5, 96, 29, 79, 42, 180, 0, 35, 7, 21, 4, 104, 6, 96, 42, 180, 0, 123, 79, 42, 180, 0, 7]
abbrev dktX3_notes_2 : List UInt8 := dkwX3_notes_2 ++ dktX3_notes_3
def dkwX3_notes_1 : List UInt8 := [21, 4, 104, 27, 79, 42, 180, 0, 35, 7, 21, 4, 104, 4, 96, 28, 79, 42, 180, 0, 35, 7, 21, 4]
abbrev dktX3_notes_1 : List UInt8 := dkwX3_notes_1 ++ dktX3_notes_2
def dkwX3_notes_0 : List UInt8 := [42, 180, 0, 7, 17, 1, 91, 46, 54, 4, 21, 4, 16, 100, 160, 0, 4, 177, 42, 180, 0, 35, 7]
abbrev dktX3_notes_0 : List UInt8 := dkwX3_notes_0 ++ dktX3_notes_1
theorem dksX3_notes_0 : cX3_notes.data.toList.drop 0 = dktX3_notes_0 := by decide +kernel
theorem dksX3_notes_1 : cX3_notes.data.toList.drop 23 = dktX3_notes_1 := dk_seg dksX3_notes_0 23 rfl rfl
theorem dksX3_notes_2 : cX3_notes.data.toList.drop 47 = dktX3_notes_2 := dk_seg dksX3_notes_1 24 rfl rfl
theorem dksX3_notes_3 : cX3_notes.data.toList.drop 71 = dktX3_notes_3 := dk_seg dksX3_notes_2 24 rfl rfl
theorem dX3_notes_0 : decode cX3_notes 0 = .ok (.aload_n 0, 1) := dk_42 (dk_at dksX3_notes_0 0 rfl rfl)
theorem dX3_notes_1 : decode cX3_notes 1 = .ok (.getfield 7, 3) := dk_180 0 7 (dk_at dksX3_notes_0 1 rfl rfl)
theorem dX3_notes_4 : decode cX3_notes 4 = .ok (.sipush 347, 3) := dk_17 1 91 (dk_at dksX3_notes_0 4 rfl rfl)
theorem dX3_notes_7 : decode cX3_notes 7 = .ok (.iaload, 1) := dk_46 (dk_at dksX3_notes_0 7 rfl rfl)
theorem dX3_notes_8 : decode cX3_notes 8 = .ok (.istore 4, 2) := dk_54 4 (dk_at dksX3_notes_0 8 rfl rfl)
theorem dX3_notes_10 : decode cX3_notes 10 = .ok (.iload 4, 2) := dk_21 4 (dk_at dksX3_notes_0 10 rfl rfl)
theorem dX3_notes_12 : decode cX3_notes 12 = .ok (.bipush 100, 2) := dk_16 100 (dk_at dksX3_notes_0 12 rfl rfl)
theorem dX3_notes_14 : decode cX3_notes 14 = .ok (.if_icmp .ne 4, 3) := dk_160 0 4 (dk_at dksX3_notes_0 14 rfl rfl)
theorem dX3_notes_17 : decode cX3_notes 17 = .ok (.return_, 1) := dk_177 (dk_at dksX3_notes_0 17 rfl rfl)
theorem dX3_notes_18 : decode cX3_notes 18 = .ok (.aload_n 0, 1) := dk_42 (dk_at dksX3_notes_0 18 rfl rfl)
theorem dX3_notes_19 : decode cX3_notes 19 = .ok (.getfield 35, 3) := dk_180 0 35 (dk_at dksX3_notes_0 19 rfl rfl)
theorem dX3_notes_22 : decode cX3_notes 22 = .ok (.iconst 4, 1) := dk_7 (dk_at dksX3_notes_0 22 rfl rfl)
theorem dX3_notes_23 : decode cX3_notes 23 = .ok (.iload 4, 2) := dk_21 4 (dk_at dksX3_notes_1 0 rfl rfl)
theorem dX3_notes_25 : decode cX3_notes 25 = .ok (.imul, 1) := dk_104 (dk_at dksX3_notes_1 2 rfl rfl)
theorem dX3_notes_26 : decode cX3_notes 26 = .ok (.iload_n 1, 1) := dk_27 (dk_at dksX3_notes_1 3 rfl rfl)
theorem dX3_notes_27 : decode cX3_notes 27 = .ok (.iastore, 1) := dk_79 (dk_at dksX3_notes_1 4 rfl rfl)
theorem dX3_notes_28 : decode cX3_notes 28 = .ok (.aload_n 0, 1) := dk_42 (dk_at dksX3_notes_1 5 rfl rfl)
theorem dX3_notes_29 : decode cX3_notes 29 = .ok (.getfield 35, 3) := dk_180 0 35 (dk_at dksX3_notes_1 6 rfl rfl)
theorem dX3_notes_32 : decode cX3_notes 32 = .ok (.iconst 4, 1) := dk_7 (dk_at dksX3_notes_1 9 rfl rfl)
theorem dX3_notes_33 : decode cX3_notes 33 = .ok (.iload 4, 2) := dk_21 4 (dk_at dksX3_notes_1 10 rfl rfl)
theorem dX3_notes_35 : decode cX3_notes 35 = .ok (.imul, 1) := dk_104 (dk_at dksX3_notes_1 12 rfl rfl)
theorem dX3_notes_36 : decode cX3_notes 36 = .ok (.iconst 1, 1) := dk_4 (dk_at dksX3_notes_1 13 rfl rfl)
theorem dX3_notes_37 : decode cX3_notes 37 = .ok (.iadd, 1) := dk_96 (dk_at dksX3_notes_1 14 rfl rfl)
theorem dX3_notes_38 : decode cX3_notes 38 = .ok (.iload_n 2, 1) := dk_28 (dk_at dksX3_notes_1 15 rfl rfl)
theorem dX3_notes_39 : decode cX3_notes 39 = .ok (.iastore, 1) := dk_79 (dk_at dksX3_notes_1 16 rfl rfl)
theorem dX3_notes_40 : decode cX3_notes 40 = .ok (.aload_n 0, 1) := dk_42 (dk_at dksX3_notes_1 17 rfl rfl)
theorem dX3_notes_41 : decode cX3_notes 41 = .ok (.getfield 35, 3) := dk_180 0 35 (dk_at dksX3_notes_1 18 rfl rfl)
theorem dX3_notes_44 : decode cX3_notes 44 = .ok (.iconst 4, 1) := dk_7 (dk_at dksX3_notes_1 21 rfl rfl)
theorem dX3_notes_45 : decode cX3_notes 45 = .ok (.iload 4, 2) := dk_21 4 (dk_at dksX3_notes_1 22 rfl rfl)
theorem dX3_notes_47 : decode cX3_notes 47 = .ok (.imul, 1) := dk_104 (dk_at dksX3_notes_2 0 rfl rfl)
theorem dX3_notes_48 : decode cX3_notes 48 = .ok (.iconst 2, 1) := dk_5 (dk_at dksX3_notes_2 1 rfl rfl)
theorem dX3_notes_49 : decode cX3_notes 49 = .ok (.iadd, 1) := dk_96 (dk_at dksX3_notes_2 2 rfl rfl)
theorem dX3_notes_50 : decode cX3_notes 50 = .ok (.iload_n 3, 1) := dk_29 (dk_at dksX3_notes_2 3 rfl rfl)
theorem dX3_notes_51 : decode cX3_notes 51 = .ok (.iastore, 1) := dk_79 (dk_at dksX3_notes_2 4 rfl rfl)
theorem dX3_notes_52 : decode cX3_notes 52 = .ok (.aload_n 0, 1) := dk_42 (dk_at dksX3_notes_2 5 rfl rfl)
theorem dX3_notes_53 : decode cX3_notes 53 = .ok (.getfield 35, 3) := dk_180 0 35 (dk_at dksX3_notes_2 6 rfl rfl)
theorem dX3_notes_56 : decode cX3_notes 56 = .ok (.iconst 4, 1) := dk_7 (dk_at dksX3_notes_2 9 rfl rfl)
theorem dX3_notes_57 : decode cX3_notes 57 = .ok (.iload 4, 2) := dk_21 4 (dk_at dksX3_notes_2 10 rfl rfl)
theorem dX3_notes_59 : decode cX3_notes 59 = .ok (.imul, 1) := dk_104 (dk_at dksX3_notes_2 12 rfl rfl)
theorem dX3_notes_60 : decode cX3_notes 60 = .ok (.iconst 3, 1) := dk_6 (dk_at dksX3_notes_2 13 rfl rfl)
theorem dX3_notes_61 : decode cX3_notes 61 = .ok (.iadd, 1) := dk_96 (dk_at dksX3_notes_2 14 rfl rfl)
theorem dX3_notes_62 : decode cX3_notes 62 = .ok (.aload_n 0, 1) := dk_42 (dk_at dksX3_notes_2 15 rfl rfl)
theorem dX3_notes_63 : decode cX3_notes 63 = .ok (.getfield 123, 3) := dk_180 0 123 (dk_at dksX3_notes_2 16 rfl rfl)
theorem dX3_notes_66 : decode cX3_notes 66 = .ok (.iastore, 1) := dk_79 (dk_at dksX3_notes_2 19 rfl rfl)
theorem dX3_notes_67 : decode cX3_notes 67 = .ok (.aload_n 0, 1) := dk_42 (dk_at dksX3_notes_2 20 rfl rfl)
theorem dX3_notes_68 : decode cX3_notes 68 = .ok (.getfield 7, 3) := dk_180 0 7 (dk_at dksX3_notes_2 21 rfl rfl)
theorem dX3_notes_71 : decode cX3_notes 71 = .ok (.sipush 347, 3) := dk_17 1 91 (dk_at dksX3_notes_3 0 rfl rfl)
theorem dX3_notes_74 : decode cX3_notes 74 = .ok (.iload 4, 2) := dk_21 4 (dk_at dksX3_notes_3 3 rfl rfl)
theorem dX3_notes_76 : decode cX3_notes 76 = .ok (.iconst 1, 1) := dk_4 (dk_at dksX3_notes_3 5 rfl rfl)
theorem dX3_notes_77 : decode cX3_notes 77 = .ok (.iadd, 1) := dk_96 (dk_at dksX3_notes_3 6 rfl rfl)
theorem dX3_notes_78 : decode cX3_notes 78 = .ok (.iastore, 1) := dk_79 (dk_at dksX3_notes_3 7 rfl rfl)
theorem dX3_notes_79 : decode cX3_notes 79 = .ok (.return_, 1) := dk_177 (dk_at dksX3_notes_3 8 rfl rfl)
abbrev cX3_act : ByteArray := prog_14_method_24_code
def yX3_act : MethodName := ⟨RX3, "act", "(II)Z"⟩
def dkwX3_act_5 : List UInt8 := [172]
abbrev dktX3_act_5 : List UInt8 := dkwX3_act_5 ++ []
def dkwX3_act_4 : List UInt8 := [79, 28, 4, 160, 0, 9, 42, 27, 29, 182, 0, 146, 28, 5, 160, 0, 9, 42, 27, 29, 182, 0, 150, 4]
abbrev dktX3_act_4 : List UInt8 := dkwX3_act_4 ++ dktX3_act_5
def dkwX3_act_3 : List UInt8 := [182, 0, 136, 28, 154, 0, 21, 42, 180, 0, 7, 17, 1, 90, 42, 180, 0, 7, 17, 1, 90, 46, 4, 96]
abbrev dktX3_act_3 : List UInt8 := dkwX3_act_3 ++ dktX3_act_4
def dkwX3_act_2 : List UInt8 := [16, 99, 160, 0, 19, 167, 0, 14, 42, 180, 0, 7, 3, 29, 96, 46, 154, 0, 5, 3, 172, 42]
abbrev dktX3_act_2 : List UInt8 := dkwX3_act_2 ++ dktX3_act_3
def dkwX3_act_1 : List UInt8 := [172, 42, 180, 0, 7, 17, 1, 0, 27, 96, 46, 62, 28, 154, 0, 19, 42, 180, 0, 7, 17, 1, 90, 46]
abbrev dktX3_act_1 : List UInt8 := dkwX3_act_1 ++ dktX3_act_2
def dkwX3_act_0 : List UInt8 := [42, 3, 181, 0, 86, 42, 27, 182, 0, 133, 153, 0, 13, 42, 28, 3, 5, 182, 0, 107, 154, 0, 5, 3]
abbrev dktX3_act_0 : List UInt8 := dkwX3_act_0 ++ dktX3_act_1
theorem dksX3_act_0 : cX3_act.data.toList.drop 0 = dktX3_act_0 := by decide +kernel
theorem dksX3_act_1 : cX3_act.data.toList.drop 24 = dktX3_act_1 := dk_seg dksX3_act_0 24 rfl rfl
theorem dksX3_act_2 : cX3_act.data.toList.drop 48 = dktX3_act_2 := dk_seg dksX3_act_1 24 rfl rfl
theorem dksX3_act_3 : cX3_act.data.toList.drop 70 = dktX3_act_3 := dk_seg dksX3_act_2 22 rfl rfl
theorem dksX3_act_4 : cX3_act.data.toList.drop 94 = dktX3_act_4 := dk_seg dksX3_act_3 24 rfl rfl
theorem dksX3_act_5 : cX3_act.data.toList.drop 118 = dktX3_act_5 := dk_seg dksX3_act_4 24 rfl rfl
theorem dX3_act_0 : decode cX3_act 0 = .ok (.aload_n 0, 1) := dk_42 (dk_at dksX3_act_0 0 rfl rfl)
theorem dX3_act_1 : decode cX3_act 1 = .ok (.iconst 0, 1) := dk_3 (dk_at dksX3_act_0 1 rfl rfl)
theorem dX3_act_2 : decode cX3_act 2 = .ok (.putfield 86, 3) := dk_181 0 86 (dk_at dksX3_act_0 2 rfl rfl)
theorem dX3_act_5 : decode cX3_act 5 = .ok (.aload_n 0, 1) := dk_42 (dk_at dksX3_act_0 5 rfl rfl)
theorem dX3_act_6 : decode cX3_act 6 = .ok (.iload_n 1, 1) := dk_27 (dk_at dksX3_act_0 6 rfl rfl)
theorem dX3_act_7 : decode cX3_act 7 = .ok (.invokevirtual 133, 3) := dk_182 0 133 (dk_at dksX3_act_0 7 rfl rfl)
theorem dX3_act_10 : decode cX3_act 10 = .ok (.ifCond .eq 13, 3) := dk_153 0 13 (dk_at dksX3_act_0 10 rfl rfl)
theorem dX3_act_13 : decode cX3_act 13 = .ok (.aload_n 0, 1) := dk_42 (dk_at dksX3_act_0 13 rfl rfl)
theorem dX3_act_14 : decode cX3_act 14 = .ok (.iload_n 2, 1) := dk_28 (dk_at dksX3_act_0 14 rfl rfl)
theorem dX3_act_15 : decode cX3_act 15 = .ok (.iconst 0, 1) := dk_3 (dk_at dksX3_act_0 15 rfl rfl)
theorem dX3_act_16 : decode cX3_act 16 = .ok (.iconst 2, 1) := dk_5 (dk_at dksX3_act_0 16 rfl rfl)
theorem dX3_act_17 : decode cX3_act 17 = .ok (.invokevirtual 107, 3) := dk_182 0 107 (dk_at dksX3_act_0 17 rfl rfl)
theorem dX3_act_20 : decode cX3_act 20 = .ok (.ifCond .ne 5, 3) := dk_154 0 5 (dk_at dksX3_act_0 20 rfl rfl)
theorem dX3_act_23 : decode cX3_act 23 = .ok (.iconst 0, 1) := dk_3 (dk_at dksX3_act_0 23 rfl rfl)
theorem dX3_act_24 : decode cX3_act 24 = .ok (.ireturn, 1) := dk_172 (dk_at dksX3_act_1 0 rfl rfl)
theorem dX3_act_25 : decode cX3_act 25 = .ok (.aload_n 0, 1) := dk_42 (dk_at dksX3_act_1 1 rfl rfl)
theorem dX3_act_26 : decode cX3_act 26 = .ok (.getfield 7, 3) := dk_180 0 7 (dk_at dksX3_act_1 2 rfl rfl)
theorem dX3_act_29 : decode cX3_act 29 = .ok (.sipush 256, 3) := dk_17 1 0 (dk_at dksX3_act_1 5 rfl rfl)
theorem dX3_act_32 : decode cX3_act 32 = .ok (.iload_n 1, 1) := dk_27 (dk_at dksX3_act_1 8 rfl rfl)
theorem dX3_act_33 : decode cX3_act 33 = .ok (.iadd, 1) := dk_96 (dk_at dksX3_act_1 9 rfl rfl)
theorem dX3_act_34 : decode cX3_act 34 = .ok (.iaload, 1) := dk_46 (dk_at dksX3_act_1 10 rfl rfl)
theorem dX3_act_35 : decode cX3_act 35 = .ok (.istore_n 3, 1) := dk_62 (dk_at dksX3_act_1 11 rfl rfl)
theorem dX3_act_36 : decode cX3_act 36 = .ok (.iload_n 2, 1) := dk_28 (dk_at dksX3_act_1 12 rfl rfl)
theorem dX3_act_37 : decode cX3_act 37 = .ok (.ifCond .ne 19, 3) := dk_154 0 19 (dk_at dksX3_act_1 13 rfl rfl)
theorem dX3_act_40 : decode cX3_act 40 = .ok (.aload_n 0, 1) := dk_42 (dk_at dksX3_act_1 16 rfl rfl)
theorem dX3_act_41 : decode cX3_act 41 = .ok (.getfield 7, 3) := dk_180 0 7 (dk_at dksX3_act_1 17 rfl rfl)
theorem dX3_act_44 : decode cX3_act 44 = .ok (.sipush 346, 3) := dk_17 1 90 (dk_at dksX3_act_1 20 rfl rfl)
theorem dX3_act_47 : decode cX3_act 47 = .ok (.iaload, 1) := dk_46 (dk_at dksX3_act_1 23 rfl rfl)
theorem dX3_act_48 : decode cX3_act 48 = .ok (.bipush 99, 2) := dk_16 99 (dk_at dksX3_act_2 0 rfl rfl)
theorem dX3_act_50 : decode cX3_act 50 = .ok (.if_icmp .ne 19, 3) := dk_160 0 19 (dk_at dksX3_act_2 2 rfl rfl)
theorem dX3_act_53 : decode cX3_act 53 = .ok (.goto 14, 3) := dk_167 0 14 (dk_at dksX3_act_2 5 rfl rfl)
theorem dX3_act_56 : decode cX3_act 56 = .ok (.aload_n 0, 1) := dk_42 (dk_at dksX3_act_2 8 rfl rfl)
theorem dX3_act_57 : decode cX3_act 57 = .ok (.getfield 7, 3) := dk_180 0 7 (dk_at dksX3_act_2 9 rfl rfl)
theorem dX3_act_60 : decode cX3_act 60 = .ok (.iconst 0, 1) := dk_3 (dk_at dksX3_act_2 12 rfl rfl)
theorem dX3_act_61 : decode cX3_act 61 = .ok (.iload_n 3, 1) := dk_29 (dk_at dksX3_act_2 13 rfl rfl)
theorem dX3_act_62 : decode cX3_act 62 = .ok (.iadd, 1) := dk_96 (dk_at dksX3_act_2 14 rfl rfl)
theorem dX3_act_63 : decode cX3_act 63 = .ok (.iaload, 1) := dk_46 (dk_at dksX3_act_2 15 rfl rfl)
theorem dX3_act_64 : decode cX3_act 64 = .ok (.ifCond .ne 5, 3) := dk_154 0 5 (dk_at dksX3_act_2 16 rfl rfl)
theorem dX3_act_67 : decode cX3_act 67 = .ok (.iconst 0, 1) := dk_3 (dk_at dksX3_act_2 19 rfl rfl)
theorem dX3_act_68 : decode cX3_act 68 = .ok (.ireturn, 1) := dk_172 (dk_at dksX3_act_2 20 rfl rfl)
theorem dX3_act_69 : decode cX3_act 69 = .ok (.aload_n 0, 1) := dk_42 (dk_at dksX3_act_2 21 rfl rfl)
theorem dX3_act_70 : decode cX3_act 70 = .ok (.invokevirtual 136, 3) := dk_182 0 136 (dk_at dksX3_act_3 0 rfl rfl)
theorem dX3_act_73 : decode cX3_act 73 = .ok (.iload_n 2, 1) := dk_28 (dk_at dksX3_act_3 3 rfl rfl)
theorem dX3_act_74 : decode cX3_act 74 = .ok (.ifCond .ne 21, 3) := dk_154 0 21 (dk_at dksX3_act_3 4 rfl rfl)
theorem dX3_act_77 : decode cX3_act 77 = .ok (.aload_n 0, 1) := dk_42 (dk_at dksX3_act_3 7 rfl rfl)
theorem dX3_act_78 : decode cX3_act 78 = .ok (.getfield 7, 3) := dk_180 0 7 (dk_at dksX3_act_3 8 rfl rfl)
theorem dX3_act_81 : decode cX3_act 81 = .ok (.sipush 346, 3) := dk_17 1 90 (dk_at dksX3_act_3 11 rfl rfl)
theorem dX3_act_84 : decode cX3_act 84 = .ok (.aload_n 0, 1) := dk_42 (dk_at dksX3_act_3 14 rfl rfl)
theorem dX3_act_85 : decode cX3_act 85 = .ok (.getfield 7, 3) := dk_180 0 7 (dk_at dksX3_act_3 15 rfl rfl)
theorem dX3_act_88 : decode cX3_act 88 = .ok (.sipush 346, 3) := dk_17 1 90 (dk_at dksX3_act_3 18 rfl rfl)
theorem dX3_act_91 : decode cX3_act 91 = .ok (.iaload, 1) := dk_46 (dk_at dksX3_act_3 21 rfl rfl)
theorem dX3_act_92 : decode cX3_act 92 = .ok (.iconst 1, 1) := dk_4 (dk_at dksX3_act_3 22 rfl rfl)
theorem dX3_act_93 : decode cX3_act 93 = .ok (.iadd, 1) := dk_96 (dk_at dksX3_act_3 23 rfl rfl)
theorem dX3_act_94 : decode cX3_act 94 = .ok (.iastore, 1) := dk_79 (dk_at dksX3_act_4 0 rfl rfl)
theorem dX3_act_95 : decode cX3_act 95 = .ok (.iload_n 2, 1) := dk_28 (dk_at dksX3_act_4 1 rfl rfl)
theorem dX3_act_96 : decode cX3_act 96 = .ok (.iconst 1, 1) := dk_4 (dk_at dksX3_act_4 2 rfl rfl)
theorem dX3_act_97 : decode cX3_act 97 = .ok (.if_icmp .ne 9, 3) := dk_160 0 9 (dk_at dksX3_act_4 3 rfl rfl)
theorem dX3_act_100 : decode cX3_act 100 = .ok (.aload_n 0, 1) := dk_42 (dk_at dksX3_act_4 6 rfl rfl)
theorem dX3_act_101 : decode cX3_act 101 = .ok (.iload_n 1, 1) := dk_27 (dk_at dksX3_act_4 7 rfl rfl)
theorem dX3_act_102 : decode cX3_act 102 = .ok (.iload_n 3, 1) := dk_29 (dk_at dksX3_act_4 8 rfl rfl)
theorem dX3_act_103 : decode cX3_act 103 = .ok (.invokevirtual 146, 3) := dk_182 0 146 (dk_at dksX3_act_4 9 rfl rfl)
theorem dX3_act_106 : decode cX3_act 106 = .ok (.iload_n 2, 1) := dk_28 (dk_at dksX3_act_4 12 rfl rfl)
theorem dX3_act_107 : decode cX3_act 107 = .ok (.iconst 2, 1) := dk_5 (dk_at dksX3_act_4 13 rfl rfl)
theorem dX3_act_108 : decode cX3_act 108 = .ok (.if_icmp .ne 9, 3) := dk_160 0 9 (dk_at dksX3_act_4 14 rfl rfl)
theorem dX3_act_111 : decode cX3_act 111 = .ok (.aload_n 0, 1) := dk_42 (dk_at dksX3_act_4 17 rfl rfl)
theorem dX3_act_112 : decode cX3_act 112 = .ok (.iload_n 1, 1) := dk_27 (dk_at dksX3_act_4 18 rfl rfl)
theorem dX3_act_113 : decode cX3_act 113 = .ok (.iload_n 3, 1) := dk_29 (dk_at dksX3_act_4 19 rfl rfl)
theorem dX3_act_114 : decode cX3_act 114 = .ok (.invokevirtual 150, 3) := dk_182 0 150 (dk_at dksX3_act_4 20 rfl rfl)
theorem dX3_act_117 : decode cX3_act 117 = .ok (.iconst 1, 1) := dk_4 (dk_at dksX3_act_4 23 rfl rfl)
theorem dX3_act_118 : decode cX3_act 118 = .ok (.ireturn, 1) := dk_172 (dk_at dksX3_act_5 0 rfl rfl)
abbrev cX3_picks : ByteArray := prog_14_method_22_code
def yX3_picks : MethodName := ⟨RX3, "picks", "(II)V"⟩
def dkwX3_picks_3 : List UInt8 := [96, 79, 42, 180, 0, 7, 3, 28, 96, 3, 79, 177]
abbrev dktX3_picks_3 : List UInt8 := dkwX3_picks_3 ++ []
def dkwX3_picks_2 : List UInt8 := [17, 1, 12, 27, 96, 42, 180, 0, 7, 17, 1, 12, 27, 96, 46, 42, 180, 0, 7, 16, 64, 28, 96, 46]
abbrev dktX3_picks_2 : List UInt8 := dkwX3_picks_2 ++ dktX3_picks_3
def dkwX3_picks_1 : List UInt8 := [96, 42, 180, 0, 7, 17, 1, 18, 16, 12, 27, 104, 96, 29, 96, 46, 4, 96, 79, 42, 180, 0, 7]
abbrev dktX3_picks_1 : List UInt8 := dkwX3_picks_1 ++ dktX3_picks_2
def dkwX3_picks_0 : List UInt8 := [42, 180, 0, 7, 3, 28, 96, 46, 4, 100, 62, 42, 180, 0, 7, 17, 1, 18, 16, 12, 27, 104, 96, 29]
abbrev dktX3_picks_0 : List UInt8 := dkwX3_picks_0 ++ dktX3_picks_1
theorem dksX3_picks_0 : cX3_picks.data.toList.drop 0 = dktX3_picks_0 := by decide +kernel
theorem dksX3_picks_1 : cX3_picks.data.toList.drop 24 = dktX3_picks_1 := dk_seg dksX3_picks_0 24 rfl rfl
theorem dksX3_picks_2 : cX3_picks.data.toList.drop 47 = dktX3_picks_2 := dk_seg dksX3_picks_1 23 rfl rfl
theorem dksX3_picks_3 : cX3_picks.data.toList.drop 71 = dktX3_picks_3 := dk_seg dksX3_picks_2 24 rfl rfl
theorem dX3_picks_0 : decode cX3_picks 0 = .ok (.aload_n 0, 1) := dk_42 (dk_at dksX3_picks_0 0 rfl rfl)
theorem dX3_picks_1 : decode cX3_picks 1 = .ok (.getfield 7, 3) := dk_180 0 7 (dk_at dksX3_picks_0 1 rfl rfl)
theorem dX3_picks_4 : decode cX3_picks 4 = .ok (.iconst 0, 1) := dk_3 (dk_at dksX3_picks_0 4 rfl rfl)
theorem dX3_picks_5 : decode cX3_picks 5 = .ok (.iload_n 2, 1) := dk_28 (dk_at dksX3_picks_0 5 rfl rfl)
theorem dX3_picks_6 : decode cX3_picks 6 = .ok (.iadd, 1) := dk_96 (dk_at dksX3_picks_0 6 rfl rfl)
theorem dX3_picks_7 : decode cX3_picks 7 = .ok (.iaload, 1) := dk_46 (dk_at dksX3_picks_0 7 rfl rfl)
theorem dX3_picks_8 : decode cX3_picks 8 = .ok (.iconst 1, 1) := dk_4 (dk_at dksX3_picks_0 8 rfl rfl)
theorem dX3_picks_9 : decode cX3_picks 9 = .ok (.isub, 1) := dk_100 (dk_at dksX3_picks_0 9 rfl rfl)
theorem dX3_picks_10 : decode cX3_picks 10 = .ok (.istore_n 3, 1) := dk_62 (dk_at dksX3_picks_0 10 rfl rfl)
theorem dX3_picks_11 : decode cX3_picks 11 = .ok (.aload_n 0, 1) := dk_42 (dk_at dksX3_picks_0 11 rfl rfl)
theorem dX3_picks_12 : decode cX3_picks 12 = .ok (.getfield 7, 3) := dk_180 0 7 (dk_at dksX3_picks_0 12 rfl rfl)
theorem dX3_picks_15 : decode cX3_picks 15 = .ok (.sipush 274, 3) := dk_17 1 18 (dk_at dksX3_picks_0 15 rfl rfl)
theorem dX3_picks_18 : decode cX3_picks 18 = .ok (.bipush 12, 2) := dk_16 12 (dk_at dksX3_picks_0 18 rfl rfl)
theorem dX3_picks_20 : decode cX3_picks 20 = .ok (.iload_n 1, 1) := dk_27 (dk_at dksX3_picks_0 20 rfl rfl)
theorem dX3_picks_21 : decode cX3_picks 21 = .ok (.imul, 1) := dk_104 (dk_at dksX3_picks_0 21 rfl rfl)
theorem dX3_picks_22 : decode cX3_picks 22 = .ok (.iadd, 1) := dk_96 (dk_at dksX3_picks_0 22 rfl rfl)
theorem dX3_picks_23 : decode cX3_picks 23 = .ok (.iload_n 3, 1) := dk_29 (dk_at dksX3_picks_0 23 rfl rfl)
theorem dX3_picks_24 : decode cX3_picks 24 = .ok (.iadd, 1) := dk_96 (dk_at dksX3_picks_1 0 rfl rfl)
theorem dX3_picks_25 : decode cX3_picks 25 = .ok (.aload_n 0, 1) := dk_42 (dk_at dksX3_picks_1 1 rfl rfl)
theorem dX3_picks_26 : decode cX3_picks 26 = .ok (.getfield 7, 3) := dk_180 0 7 (dk_at dksX3_picks_1 2 rfl rfl)
theorem dX3_picks_29 : decode cX3_picks 29 = .ok (.sipush 274, 3) := dk_17 1 18 (dk_at dksX3_picks_1 5 rfl rfl)
theorem dX3_picks_32 : decode cX3_picks 32 = .ok (.bipush 12, 2) := dk_16 12 (dk_at dksX3_picks_1 8 rfl rfl)
theorem dX3_picks_34 : decode cX3_picks 34 = .ok (.iload_n 1, 1) := dk_27 (dk_at dksX3_picks_1 10 rfl rfl)
theorem dX3_picks_35 : decode cX3_picks 35 = .ok (.imul, 1) := dk_104 (dk_at dksX3_picks_1 11 rfl rfl)
theorem dX3_picks_36 : decode cX3_picks 36 = .ok (.iadd, 1) := dk_96 (dk_at dksX3_picks_1 12 rfl rfl)
theorem dX3_picks_37 : decode cX3_picks 37 = .ok (.iload_n 3, 1) := dk_29 (dk_at dksX3_picks_1 13 rfl rfl)
theorem dX3_picks_38 : decode cX3_picks 38 = .ok (.iadd, 1) := dk_96 (dk_at dksX3_picks_1 14 rfl rfl)
theorem dX3_picks_39 : decode cX3_picks 39 = .ok (.iaload, 1) := dk_46 (dk_at dksX3_picks_1 15 rfl rfl)
theorem dX3_picks_40 : decode cX3_picks 40 = .ok (.iconst 1, 1) := dk_4 (dk_at dksX3_picks_1 16 rfl rfl)
theorem dX3_picks_41 : decode cX3_picks 41 = .ok (.iadd, 1) := dk_96 (dk_at dksX3_picks_1 17 rfl rfl)
theorem dX3_picks_42 : decode cX3_picks 42 = .ok (.iastore, 1) := dk_79 (dk_at dksX3_picks_1 18 rfl rfl)
theorem dX3_picks_43 : decode cX3_picks 43 = .ok (.aload_n 0, 1) := dk_42 (dk_at dksX3_picks_1 19 rfl rfl)
theorem dX3_picks_44 : decode cX3_picks 44 = .ok (.getfield 7, 3) := dk_180 0 7 (dk_at dksX3_picks_1 20 rfl rfl)
theorem dX3_picks_47 : decode cX3_picks 47 = .ok (.sipush 268, 3) := dk_17 1 12 (dk_at dksX3_picks_2 0 rfl rfl)
theorem dX3_picks_50 : decode cX3_picks 50 = .ok (.iload_n 1, 1) := dk_27 (dk_at dksX3_picks_2 3 rfl rfl)
theorem dX3_picks_51 : decode cX3_picks 51 = .ok (.iadd, 1) := dk_96 (dk_at dksX3_picks_2 4 rfl rfl)
theorem dX3_picks_52 : decode cX3_picks 52 = .ok (.aload_n 0, 1) := dk_42 (dk_at dksX3_picks_2 5 rfl rfl)
theorem dX3_picks_53 : decode cX3_picks 53 = .ok (.getfield 7, 3) := dk_180 0 7 (dk_at dksX3_picks_2 6 rfl rfl)
theorem dX3_picks_56 : decode cX3_picks 56 = .ok (.sipush 268, 3) := dk_17 1 12 (dk_at dksX3_picks_2 9 rfl rfl)
theorem dX3_picks_59 : decode cX3_picks 59 = .ok (.iload_n 1, 1) := dk_27 (dk_at dksX3_picks_2 12 rfl rfl)
theorem dX3_picks_60 : decode cX3_picks 60 = .ok (.iadd, 1) := dk_96 (dk_at dksX3_picks_2 13 rfl rfl)
theorem dX3_picks_61 : decode cX3_picks 61 = .ok (.iaload, 1) := dk_46 (dk_at dksX3_picks_2 14 rfl rfl)
theorem dX3_picks_62 : decode cX3_picks 62 = .ok (.aload_n 0, 1) := dk_42 (dk_at dksX3_picks_2 15 rfl rfl)
theorem dX3_picks_63 : decode cX3_picks 63 = .ok (.getfield 7, 3) := dk_180 0 7 (dk_at dksX3_picks_2 16 rfl rfl)
theorem dX3_picks_66 : decode cX3_picks 66 = .ok (.bipush 64, 2) := dk_16 64 (dk_at dksX3_picks_2 19 rfl rfl)
theorem dX3_picks_68 : decode cX3_picks 68 = .ok (.iload_n 2, 1) := dk_28 (dk_at dksX3_picks_2 21 rfl rfl)
theorem dX3_picks_69 : decode cX3_picks 69 = .ok (.iadd, 1) := dk_96 (dk_at dksX3_picks_2 22 rfl rfl)
theorem dX3_picks_70 : decode cX3_picks 70 = .ok (.iaload, 1) := dk_46 (dk_at dksX3_picks_2 23 rfl rfl)
theorem dX3_picks_71 : decode cX3_picks 71 = .ok (.iadd, 1) := dk_96 (dk_at dksX3_picks_3 0 rfl rfl)
theorem dX3_picks_72 : decode cX3_picks 72 = .ok (.iastore, 1) := dk_79 (dk_at dksX3_picks_3 1 rfl rfl)
theorem dX3_picks_73 : decode cX3_picks 73 = .ok (.aload_n 0, 1) := dk_42 (dk_at dksX3_picks_3 2 rfl rfl)
theorem dX3_picks_74 : decode cX3_picks 74 = .ok (.getfield 7, 3) := dk_180 0 7 (dk_at dksX3_picks_3 3 rfl rfl)
theorem dX3_picks_77 : decode cX3_picks 77 = .ok (.iconst 0, 1) := dk_3 (dk_at dksX3_picks_3 6 rfl rfl)
theorem dX3_picks_78 : decode cX3_picks 78 = .ok (.iload_n 2, 1) := dk_28 (dk_at dksX3_picks_3 7 rfl rfl)
theorem dX3_picks_79 : decode cX3_picks 79 = .ok (.iadd, 1) := dk_96 (dk_at dksX3_picks_3 8 rfl rfl)
theorem dX3_picks_80 : decode cX3_picks 80 = .ok (.iconst 0, 1) := dk_3 (dk_at dksX3_picks_3 9 rfl rfl)
theorem dX3_picks_81 : decode cX3_picks 81 = .ok (.iastore, 1) := dk_79 (dk_at dksX3_picks_3 10 rfl rfl)
theorem dX3_picks_82 : decode cX3_picks 82 = .ok (.return_, 1) := dk_177 (dk_at dksX3_picks_3 11 rfl rfl)
abbrev cX3_eats : ByteArray := prog_14_method_23_code
def yX3_eats : MethodName := ⟨RX3, "eats", "(II)V"⟩
def dkwX3_eats_4 : List UInt8 := [158, 0, 10, 21, 4, 5, 108, 167, 0, 5, 21, 4, 79, 42, 180, 0, 7, 3, 28, 96, 3, 79, 177]
abbrev dktX3_eats_4 : List UInt8 := dkwX3_eats_4 ++ []
def dkwX3_eats_3 : List UInt8 := [96, 42, 180, 0, 32, 29, 46, 2, 159, 0, 24, 42, 180, 0, 29, 42, 180, 0, 32, 29, 46, 46]
abbrev dktX3_eats_3 : List UInt8 := dkwX3_eats_3 ++ dktX3_eats_4
def dkwX3_eats_2 : List UInt8 := [21, 4, 16, 99, 164, 0, 8, 16, 99, 167, 0, 5, 21, 4, 54, 4, 42, 180, 0, 7, 17, 1, 6, 27]
abbrev dktX3_eats_2 : List UInt8 := dkwX3_eats_2 ++ dktX3_eats_3
def dkwX3_eats_1 : List UInt8 := [180, 0, 29, 29, 46, 42, 180, 0, 7, 16, 64, 28, 96, 46, 104, 16, 9, 96, 16, 10, 108, 96, 54, 4]
abbrev dktX3_eats_1 : List UInt8 := dkwX3_eats_1 ++ dktX3_eats_2
def dkwX3_eats_0 : List UInt8 := [42, 180, 0, 7, 3, 28, 96, 46, 4, 100, 62, 42, 180, 0, 7, 17, 1, 6, 27, 96, 46, 42]
abbrev dktX3_eats_0 : List UInt8 := dkwX3_eats_0 ++ dktX3_eats_1
theorem dksX3_eats_0 : cX3_eats.data.toList.drop 0 = dktX3_eats_0 := by decide +kernel
theorem dksX3_eats_1 : cX3_eats.data.toList.drop 22 = dktX3_eats_1 := dk_seg dksX3_eats_0 22 rfl rfl
theorem dksX3_eats_2 : cX3_eats.data.toList.drop 46 = dktX3_eats_2 := dk_seg dksX3_eats_1 24 rfl rfl
theorem dksX3_eats_3 : cX3_eats.data.toList.drop 70 = dktX3_eats_3 := dk_seg dksX3_eats_2 24 rfl rfl
theorem dksX3_eats_4 : cX3_eats.data.toList.drop 92 = dktX3_eats_4 := dk_seg dksX3_eats_3 22 rfl rfl
theorem dX3_eats_0 : decode cX3_eats 0 = .ok (.aload_n 0, 1) := dk_42 (dk_at dksX3_eats_0 0 rfl rfl)
theorem dX3_eats_1 : decode cX3_eats 1 = .ok (.getfield 7, 3) := dk_180 0 7 (dk_at dksX3_eats_0 1 rfl rfl)
theorem dX3_eats_4 : decode cX3_eats 4 = .ok (.iconst 0, 1) := dk_3 (dk_at dksX3_eats_0 4 rfl rfl)
theorem dX3_eats_5 : decode cX3_eats 5 = .ok (.iload_n 2, 1) := dk_28 (dk_at dksX3_eats_0 5 rfl rfl)
theorem dX3_eats_6 : decode cX3_eats 6 = .ok (.iadd, 1) := dk_96 (dk_at dksX3_eats_0 6 rfl rfl)
theorem dX3_eats_7 : decode cX3_eats 7 = .ok (.iaload, 1) := dk_46 (dk_at dksX3_eats_0 7 rfl rfl)
theorem dX3_eats_8 : decode cX3_eats 8 = .ok (.iconst 1, 1) := dk_4 (dk_at dksX3_eats_0 8 rfl rfl)
theorem dX3_eats_9 : decode cX3_eats 9 = .ok (.isub, 1) := dk_100 (dk_at dksX3_eats_0 9 rfl rfl)
theorem dX3_eats_10 : decode cX3_eats 10 = .ok (.istore_n 3, 1) := dk_62 (dk_at dksX3_eats_0 10 rfl rfl)
