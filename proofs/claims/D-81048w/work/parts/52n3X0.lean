/-! CoverHouse -/
set_option maxRecDepth 100000
def RX0 : String := "CoverHouse"
def TX0 : u_T := fun k => match k with
  | 0 => ("CoverHouse", "words", "[J", true)
  | 1 => ("CoverHouse", "text", "[B", true)
  | 2 => ("CoverHouse", "textSize", "I", false)
  | 3 => ("CoverHouse", "faultPlace", "I", false)
  | 4 => ("CoverHouse", "law", "LCoverHouse$Cond;", false)
  | 5 => ("CoverHouse", "wordings", "Ljava/util/List;", true)
  | 6 => ("CoverHouse", "events", "Ljava/util/List;", true)
  | 7 => ("CoverHouse", "policies", "Ljava/util/List;", true)
  | 8 => ("CoverHouse", "claims", "Ljava/util/List;", true)
  | 9 => ("CoverHouse", "treatyKinds", "[I", true)
  | 10 => ("CoverHouse", "treatyAs", "[I", true)
  | 11 => ("CoverHouse", "treatyBs", "[I", true)
  | 12 => ("CoverHouse", "treaties", "I", false)
  | 13 => ("CoverHouse", "full", "LCoverHouse$Full;", true)
  | 14 => ("CoverHouse", "ways", "LCoverHouse$Ways;", true)
  | 15 => ("CoverHouse", "joint", "LCoverHouse$Joint;", true)
  | 16 => ("CoverHouse", "pays", "[I", true)
  | 17 => ("CoverHouse", "order", "[I", true)
  | 18 => ("CoverHouse", "bookClaims", "[I", true)
  | 19 => ("CoverHouse", "bookAccounts", "[I", true)
  | 20 => ("CoverHouse", "bookAmounts", "[I", true)
  | 21 => ("CoverHouse", "bookDays", "[I", true)
  | 22 => ("CoverHouse", "bookSize", "I", false)
  | 23 => ("CoverHouse", "closed", "I", false)
  | 24 => ("CoverHouse", "grid", "[J", true)
  | 25 => ("CoverHouse", "sizes", "[I", true)
  | 26 => ("CoverHouse", "sizeSum", "I", false)
  | 27 => ("CoverHouse", "counts", "[I", true)
  | 28 => ("CoverHouse", "masses", "[J", true)
  | 29 => ("CoverHouse", "sums", "[J", true)
  | 30 => ("CoverHouse", "next", "[J", true)
  | _ => ("CoverHouse", "areMasses", "Z", false)
def tyX0 : Nat → FieldType := fun k => match k with
  | 0 => .array .long
  | 1 => .array .byte
  | 2 => .int
  | 3 => .int
  | 4 => .object "CoverHouse$Cond"
  | 5 => .object "java/util/List"
  | 6 => .object "java/util/List"
  | 7 => .object "java/util/List"
  | 8 => .object "java/util/List"
  | 9 => .array .int
  | 10 => .array .int
  | 11 => .array .int
  | 12 => .int
  | 13 => .object "CoverHouse$Full"
  | 14 => .object "CoverHouse$Ways"
  | 15 => .object "CoverHouse$Joint"
  | 16 => .array .int
  | 17 => .array .int
  | 18 => .array .int
  | 19 => .array .int
  | 20 => .array .int
  | 21 => .array .int
  | 22 => .int
  | 23 => .int
  | 24 => .array .long
  | 25 => .array .int
  | 26 => .int
  | 27 => .array .int
  | 28 => .array .long
  | 29 => .array .long
  | 30 => .array .long
  | _ => .boolean
abbrev wsX00 : List Cond := u_ws RX0 TX0 32
set_option maxRecDepth 100000 in
theorem nmX0 : ∀ a, a < 32 → ∀ b, b < 32 → a ≠ b → (TX0 a).2.1 ≠ (TX0 b).2.1 := by decide +kernel
set_option maxRecDepth 100000 in
theorem tyX0_ok : ∀ k, k < 32 → parseFieldDescriptor (TX0 k).2.2.1 = some (tyX0 k) := by decide +kernel
abbrev cX0_init : ByteArray := prog_1_method_2_code
def yX0_init : MethodName := ⟨RX0, "<init>", "()V"⟩
def dkwX0_init_18 : List UInt8 := [17, 6, 65, 188, 11, 181, 0, 161, 177]
abbrev dktX0_init_18 : List UInt8 := dkwX0_init_18 ++ []
def dkwX0_init_17 : List UInt8 := [181, 0, 152, 42, 17, 6, 65, 188, 11, 181, 0, 155, 42, 17, 6, 65, 188, 11, 181, 0, 158, 42]
abbrev dktX0_init_17 : List UInt8 := dkwX0_init_17 ++ dktX0_init_18
def dkwX0_init_16 : List UInt8 := [181, 0, 143, 42, 16, 100, 188, 11, 181, 0, 146, 42, 17, 1, 145, 188, 10, 181, 0, 149, 42, 8, 188, 10]
abbrev dktX0_init_16 : List UInt8 := dkwX0_init_16 ++ dktX0_init_17
def dkwX0_init_15 : List UInt8 := [42, 17, 1, 144, 188, 10, 181, 0, 137, 42, 17, 1, 144, 188, 10, 181, 0, 140, 42, 17, 1, 144, 188, 10]
abbrev dktX0_init_15 : List UInt8 := dkwX0_init_15 ++ dktX0_init_16
def dkwX0_init_14 : List UInt8 := [16, 40, 188, 10, 181, 0, 128, 42, 16, 40, 188, 10, 181, 0, 131, 42, 17, 1, 144, 188, 10, 181, 0, 134]
abbrev dktX0_init_14 : List UInt8 := dkwX0_init_14 ++ dktX0_init_15
def dkwX0_init_13 : List UInt8 := [187, 0, 112, 89, 42, 183, 0, 114, 181, 0, 117, 42, 187, 0, 121, 89, 42, 183, 0, 123, 181, 0, 124, 42]
abbrev dktX0_init_13 : List UInt8 := dkwX0_init_13 ++ dktX0_init_14
def dkwX0_init_12 : List UInt8 := [181, 0, 99, 42, 16, 6, 188, 10, 181, 0, 102, 42, 187, 0, 105, 89, 183, 0, 107, 181, 0, 108, 42]
abbrev dktX0_init_12 : List UInt8 := dkwX0_init_12 ++ dktX0_init_13
def dkwX0_init_11 : List UInt8 := [187, 0, 79, 89, 183, 0, 81, 181, 0, 92, 42, 16, 6, 188, 10, 181, 0, 95, 42, 16, 6, 188, 10]
abbrev dktX0_init_11 : List UInt8 := dkwX0_init_11 ++ dktX0_init_12
def dkwX0_init_10 : List UInt8 := [42, 187, 0, 79, 89, 183, 0, 81, 181, 0, 86, 42, 187, 0, 79, 89, 183, 0, 81, 181, 0, 89, 42]
abbrev dktX0_init_10 : List UInt8 := dkwX0_init_10 ++ dktX0_init_11
def dkwX0_init_9 : List UInt8 := [17, 15, 160, 188, 8, 181, 0, 71, 42, 2, 181, 0, 75, 42, 187, 0, 79, 89, 183, 0, 81, 181, 0, 82]
abbrev dktX0_init_9 : List UInt8 := dkwX0_init_9 ++ dktX0_init_10
def dkwX0_init_8 : List UInt8 := [16, 26, 20, 0, 65, 80, 89, 16, 27, 20, 0, 67, 80, 89, 16, 28, 20, 0, 69, 80, 181, 0, 1, 42]
abbrev dktX0_init_8 : List UInt8 := dkwX0_init_8 ++ dktX0_init_9
def dkwX0_init_7 : List UInt8 := [80, 89, 16, 23, 20, 0, 59, 80, 89, 16, 24, 20, 0, 61, 80, 89, 16, 25, 20, 0, 63, 80, 89]
abbrev dktX0_init_7 : List UInt8 := dkwX0_init_7 ++ dktX0_init_8
def dkwX0_init_6 : List UInt8 := [20, 0, 51, 80, 89, 16, 20, 20, 0, 53, 80, 89, 16, 21, 20, 0, 55, 80, 89, 16, 22, 20, 0, 57]
abbrev dktX0_init_6 : List UInt8 := dkwX0_init_6 ++ dktX0_init_7
def dkwX0_init_5 : List UInt8 := [16, 16, 20, 0, 45, 80, 89, 16, 17, 20, 0, 47, 80, 89, 16, 18, 20, 0, 49, 80, 89, 16, 19]
abbrev dktX0_init_5 : List UInt8 := dkwX0_init_5 ++ dktX0_init_6
def dkwX0_init_4 : List UInt8 := [80, 89, 16, 13, 20, 0, 39, 80, 89, 16, 14, 20, 0, 41, 80, 89, 16, 15, 20, 0, 43, 80, 89]
abbrev dktX0_init_4 : List UInt8 := dkwX0_init_4 ++ dktX0_init_5
def dkwX0_init_3 : List UInt8 := [20, 0, 31, 80, 89, 16, 10, 20, 0, 33, 80, 89, 16, 11, 20, 0, 35, 80, 89, 16, 12, 20, 0, 37]
abbrev dktX0_init_3 : List UInt8 := dkwX0_init_3 ++ dktX0_init_4
def dkwX0_init_2 : List UInt8 := [16, 6, 20, 0, 25, 80, 89, 16, 7, 20, 0, 27, 80, 89, 16, 8, 20, 0, 29, 80, 89, 16, 9]
abbrev dktX0_init_2 : List UInt8 := dkwX0_init_2 ++ dktX0_init_3
def dkwX0_init_1 : List UInt8 := [20, 0, 17, 80, 89, 6, 20, 0, 19, 80, 89, 7, 20, 0, 21, 80, 89, 8, 20, 0, 23, 80, 89]
abbrev dktX0_init_1 : List UInt8 := dkwX0_init_1 ++ dktX0_init_2
def dkwX0_init_0 : List UInt8 := [42, 183, 0, 7, 42, 16, 29, 188, 11, 89, 3, 20, 0, 13, 80, 89, 4, 20, 0, 15, 80, 89, 5]
abbrev dktX0_init_0 : List UInt8 := dkwX0_init_0 ++ dktX0_init_1
theorem dksX0_init_0 : cX0_init.data.toList.drop 0 = dktX0_init_0 := by decide +kernel
theorem dksX0_init_1 : cX0_init.data.toList.drop 23 = dktX0_init_1 := dk_seg dksX0_init_0 23 rfl rfl
theorem dksX0_init_2 : cX0_init.data.toList.drop 46 = dktX0_init_2 := dk_seg dksX0_init_1 23 rfl rfl
theorem dksX0_init_3 : cX0_init.data.toList.drop 69 = dktX0_init_3 := dk_seg dksX0_init_2 23 rfl rfl
theorem dksX0_init_4 : cX0_init.data.toList.drop 93 = dktX0_init_4 := dk_seg dksX0_init_3 24 rfl rfl
theorem dksX0_init_5 : cX0_init.data.toList.drop 116 = dktX0_init_5 := dk_seg dksX0_init_4 23 rfl rfl
theorem dksX0_init_6 : cX0_init.data.toList.drop 139 = dktX0_init_6 := dk_seg dksX0_init_5 23 rfl rfl
theorem dksX0_init_7 : cX0_init.data.toList.drop 163 = dktX0_init_7 := dk_seg dksX0_init_6 24 rfl rfl
theorem dksX0_init_8 : cX0_init.data.toList.drop 186 = dktX0_init_8 := dk_seg dksX0_init_7 23 rfl rfl
theorem dksX0_init_9 : cX0_init.data.toList.drop 210 = dktX0_init_9 := dk_seg dksX0_init_8 24 rfl rfl
theorem dksX0_init_10 : cX0_init.data.toList.drop 234 = dktX0_init_10 := dk_seg dksX0_init_9 24 rfl rfl
theorem dksX0_init_11 : cX0_init.data.toList.drop 257 = dktX0_init_11 := dk_seg dksX0_init_10 23 rfl rfl
theorem dksX0_init_12 : cX0_init.data.toList.drop 280 = dktX0_init_12 := dk_seg dksX0_init_11 23 rfl rfl
theorem dksX0_init_13 : cX0_init.data.toList.drop 303 = dktX0_init_13 := dk_seg dksX0_init_12 23 rfl rfl
theorem dksX0_init_14 : cX0_init.data.toList.drop 327 = dktX0_init_14 := dk_seg dksX0_init_13 24 rfl rfl
theorem dksX0_init_15 : cX0_init.data.toList.drop 351 = dktX0_init_15 := dk_seg dksX0_init_14 24 rfl rfl
theorem dksX0_init_16 : cX0_init.data.toList.drop 375 = dktX0_init_16 := dk_seg dksX0_init_15 24 rfl rfl
theorem dksX0_init_17 : cX0_init.data.toList.drop 399 = dktX0_init_17 := dk_seg dksX0_init_16 24 rfl rfl
theorem dksX0_init_18 : cX0_init.data.toList.drop 421 = dktX0_init_18 := dk_seg dksX0_init_17 22 rfl rfl
theorem dX0_init_0 : decode cX0_init 0 = .ok (.aload_n 0, 1) := dk_42 (dk_at dksX0_init_0 0 rfl rfl)
theorem dX0_init_1 : decode cX0_init 1 = .ok (.invokespecial 7, 3) := dk_183 0 7 (dk_at dksX0_init_0 1 rfl rfl)
theorem dX0_init_4 : decode cX0_init 4 = .ok (.aload_n 0, 1) := dk_42 (dk_at dksX0_init_0 4 rfl rfl)
theorem dX0_init_5 : decode cX0_init 5 = .ok (.bipush 29, 2) := dk_16 29 (dk_at dksX0_init_0 5 rfl rfl)
theorem dX0_init_7 : decode cX0_init 7 = .ok (.newarray .long, 2) := dk_188_11 (dk_at dksX0_init_0 7 rfl rfl)
theorem dX0_init_9 : decode cX0_init 9 = .ok (.dup, 1) := dk_89 (dk_at dksX0_init_0 9 rfl rfl)
theorem dX0_init_10 : decode cX0_init 10 = .ok (.iconst 0, 1) := dk_3 (dk_at dksX0_init_0 10 rfl rfl)
theorem dX0_init_11 : decode cX0_init 11 = .ok (.ldc2_w 13, 3) := dk_20 0 13 (dk_at dksX0_init_0 11 rfl rfl)
theorem dX0_init_14 : decode cX0_init 14 = .ok (.lastore, 1) := dk_80 (dk_at dksX0_init_0 14 rfl rfl)
theorem dX0_init_15 : decode cX0_init 15 = .ok (.dup, 1) := dk_89 (dk_at dksX0_init_0 15 rfl rfl)
theorem dX0_init_16 : decode cX0_init 16 = .ok (.iconst 1, 1) := dk_4 (dk_at dksX0_init_0 16 rfl rfl)
theorem dX0_init_17 : decode cX0_init 17 = .ok (.ldc2_w 15, 3) := dk_20 0 15 (dk_at dksX0_init_0 17 rfl rfl)
theorem dX0_init_20 : decode cX0_init 20 = .ok (.lastore, 1) := dk_80 (dk_at dksX0_init_0 20 rfl rfl)
theorem dX0_init_21 : decode cX0_init 21 = .ok (.dup, 1) := dk_89 (dk_at dksX0_init_0 21 rfl rfl)
theorem dX0_init_22 : decode cX0_init 22 = .ok (.iconst 2, 1) := dk_5 (dk_at dksX0_init_0 22 rfl rfl)
theorem dX0_init_23 : decode cX0_init 23 = .ok (.ldc2_w 17, 3) := dk_20 0 17 (dk_at dksX0_init_1 0 rfl rfl)
theorem dX0_init_26 : decode cX0_init 26 = .ok (.lastore, 1) := dk_80 (dk_at dksX0_init_1 3 rfl rfl)
theorem dX0_init_27 : decode cX0_init 27 = .ok (.dup, 1) := dk_89 (dk_at dksX0_init_1 4 rfl rfl)
theorem dX0_init_28 : decode cX0_init 28 = .ok (.iconst 3, 1) := dk_6 (dk_at dksX0_init_1 5 rfl rfl)
theorem dX0_init_29 : decode cX0_init 29 = .ok (.ldc2_w 19, 3) := dk_20 0 19 (dk_at dksX0_init_1 6 rfl rfl)
theorem dX0_init_32 : decode cX0_init 32 = .ok (.lastore, 1) := dk_80 (dk_at dksX0_init_1 9 rfl rfl)
theorem dX0_init_33 : decode cX0_init 33 = .ok (.dup, 1) := dk_89 (dk_at dksX0_init_1 10 rfl rfl)
theorem dX0_init_34 : decode cX0_init 34 = .ok (.iconst 4, 1) := dk_7 (dk_at dksX0_init_1 11 rfl rfl)
theorem dX0_init_35 : decode cX0_init 35 = .ok (.ldc2_w 21, 3) := dk_20 0 21 (dk_at dksX0_init_1 12 rfl rfl)
theorem dX0_init_38 : decode cX0_init 38 = .ok (.lastore, 1) := dk_80 (dk_at dksX0_init_1 15 rfl rfl)
theorem dX0_init_39 : decode cX0_init 39 = .ok (.dup, 1) := dk_89 (dk_at dksX0_init_1 16 rfl rfl)
theorem dX0_init_40 : decode cX0_init 40 = .ok (.iconst 5, 1) := dk_8 (dk_at dksX0_init_1 17 rfl rfl)
theorem dX0_init_41 : decode cX0_init 41 = .ok (.ldc2_w 23, 3) := dk_20 0 23 (dk_at dksX0_init_1 18 rfl rfl)
theorem dX0_init_44 : decode cX0_init 44 = .ok (.lastore, 1) := dk_80 (dk_at dksX0_init_1 21 rfl rfl)
theorem dX0_init_45 : decode cX0_init 45 = .ok (.dup, 1) := dk_89 (dk_at dksX0_init_1 22 rfl rfl)
theorem dX0_init_46 : decode cX0_init 46 = .ok (.bipush 6, 2) := dk_16 6 (dk_at dksX0_init_2 0 rfl rfl)
theorem dX0_init_48 : decode cX0_init 48 = .ok (.ldc2_w 25, 3) := dk_20 0 25 (dk_at dksX0_init_2 2 rfl rfl)
theorem dX0_init_51 : decode cX0_init 51 = .ok (.lastore, 1) := dk_80 (dk_at dksX0_init_2 5 rfl rfl)
theorem dX0_init_52 : decode cX0_init 52 = .ok (.dup, 1) := dk_89 (dk_at dksX0_init_2 6 rfl rfl)
theorem dX0_init_53 : decode cX0_init 53 = .ok (.bipush 7, 2) := dk_16 7 (dk_at dksX0_init_2 7 rfl rfl)
theorem dX0_init_55 : decode cX0_init 55 = .ok (.ldc2_w 27, 3) := dk_20 0 27 (dk_at dksX0_init_2 9 rfl rfl)
theorem dX0_init_58 : decode cX0_init 58 = .ok (.lastore, 1) := dk_80 (dk_at dksX0_init_2 12 rfl rfl)
theorem dX0_init_59 : decode cX0_init 59 = .ok (.dup, 1) := dk_89 (dk_at dksX0_init_2 13 rfl rfl)
theorem dX0_init_60 : decode cX0_init 60 = .ok (.bipush 8, 2) := dk_16 8 (dk_at dksX0_init_2 14 rfl rfl)
theorem dX0_init_62 : decode cX0_init 62 = .ok (.ldc2_w 29, 3) := dk_20 0 29 (dk_at dksX0_init_2 16 rfl rfl)
theorem dX0_init_65 : decode cX0_init 65 = .ok (.lastore, 1) := dk_80 (dk_at dksX0_init_2 19 rfl rfl)
theorem dX0_init_66 : decode cX0_init 66 = .ok (.dup, 1) := dk_89 (dk_at dksX0_init_2 20 rfl rfl)
theorem dX0_init_67 : decode cX0_init 67 = .ok (.bipush 9, 2) := dk_16 9 (dk_at dksX0_init_2 21 rfl rfl)
theorem dX0_init_69 : decode cX0_init 69 = .ok (.ldc2_w 31, 3) := dk_20 0 31 (dk_at dksX0_init_3 0 rfl rfl)
theorem dX0_init_72 : decode cX0_init 72 = .ok (.lastore, 1) := dk_80 (dk_at dksX0_init_3 3 rfl rfl)
theorem dX0_init_73 : decode cX0_init 73 = .ok (.dup, 1) := dk_89 (dk_at dksX0_init_3 4 rfl rfl)
theorem dX0_init_74 : decode cX0_init 74 = .ok (.bipush 10, 2) := dk_16 10 (dk_at dksX0_init_3 5 rfl rfl)
theorem dX0_init_76 : decode cX0_init 76 = .ok (.ldc2_w 33, 3) := dk_20 0 33 (dk_at dksX0_init_3 7 rfl rfl)
theorem dX0_init_79 : decode cX0_init 79 = .ok (.lastore, 1) := dk_80 (dk_at dksX0_init_3 10 rfl rfl)
theorem dX0_init_80 : decode cX0_init 80 = .ok (.dup, 1) := dk_89 (dk_at dksX0_init_3 11 rfl rfl)
theorem dX0_init_81 : decode cX0_init 81 = .ok (.bipush 11, 2) := dk_16 11 (dk_at dksX0_init_3 12 rfl rfl)
theorem dX0_init_83 : decode cX0_init 83 = .ok (.ldc2_w 35, 3) := dk_20 0 35 (dk_at dksX0_init_3 14 rfl rfl)
theorem dX0_init_86 : decode cX0_init 86 = .ok (.lastore, 1) := dk_80 (dk_at dksX0_init_3 17 rfl rfl)
theorem dX0_init_87 : decode cX0_init 87 = .ok (.dup, 1) := dk_89 (dk_at dksX0_init_3 18 rfl rfl)
theorem dX0_init_88 : decode cX0_init 88 = .ok (.bipush 12, 2) := dk_16 12 (dk_at dksX0_init_3 19 rfl rfl)
theorem dX0_init_90 : decode cX0_init 90 = .ok (.ldc2_w 37, 3) := dk_20 0 37 (dk_at dksX0_init_3 21 rfl rfl)
theorem dX0_init_93 : decode cX0_init 93 = .ok (.lastore, 1) := dk_80 (dk_at dksX0_init_4 0 rfl rfl)
theorem dX0_init_94 : decode cX0_init 94 = .ok (.dup, 1) := dk_89 (dk_at dksX0_init_4 1 rfl rfl)
theorem dX0_init_95 : decode cX0_init 95 = .ok (.bipush 13, 2) := dk_16 13 (dk_at dksX0_init_4 2 rfl rfl)
theorem dX0_init_97 : decode cX0_init 97 = .ok (.ldc2_w 39, 3) := dk_20 0 39 (dk_at dksX0_init_4 4 rfl rfl)
theorem dX0_init_100 : decode cX0_init 100 = .ok (.lastore, 1) := dk_80 (dk_at dksX0_init_4 7 rfl rfl)
theorem dX0_init_101 : decode cX0_init 101 = .ok (.dup, 1) := dk_89 (dk_at dksX0_init_4 8 rfl rfl)
theorem dX0_init_102 : decode cX0_init 102 = .ok (.bipush 14, 2) := dk_16 14 (dk_at dksX0_init_4 9 rfl rfl)
theorem dX0_init_104 : decode cX0_init 104 = .ok (.ldc2_w 41, 3) := dk_20 0 41 (dk_at dksX0_init_4 11 rfl rfl)
theorem dX0_init_107 : decode cX0_init 107 = .ok (.lastore, 1) := dk_80 (dk_at dksX0_init_4 14 rfl rfl)
theorem dX0_init_108 : decode cX0_init 108 = .ok (.dup, 1) := dk_89 (dk_at dksX0_init_4 15 rfl rfl)
theorem dX0_init_109 : decode cX0_init 109 = .ok (.bipush 15, 2) := dk_16 15 (dk_at dksX0_init_4 16 rfl rfl)
theorem dX0_init_111 : decode cX0_init 111 = .ok (.ldc2_w 43, 3) := dk_20 0 43 (dk_at dksX0_init_4 18 rfl rfl)
theorem dX0_init_114 : decode cX0_init 114 = .ok (.lastore, 1) := dk_80 (dk_at dksX0_init_4 21 rfl rfl)
theorem dX0_init_115 : decode cX0_init 115 = .ok (.dup, 1) := dk_89 (dk_at dksX0_init_4 22 rfl rfl)
theorem dX0_init_116 : decode cX0_init 116 = .ok (.bipush 16, 2) := dk_16 16 (dk_at dksX0_init_5 0 rfl rfl)
theorem dX0_init_118 : decode cX0_init 118 = .ok (.ldc2_w 45, 3) := dk_20 0 45 (dk_at dksX0_init_5 2 rfl rfl)
theorem dX0_init_121 : decode cX0_init 121 = .ok (.lastore, 1) := dk_80 (dk_at dksX0_init_5 5 rfl rfl)
theorem dX0_init_122 : decode cX0_init 122 = .ok (.dup, 1) := dk_89 (dk_at dksX0_init_5 6 rfl rfl)
theorem dX0_init_123 : decode cX0_init 123 = .ok (.bipush 17, 2) := dk_16 17 (dk_at dksX0_init_5 7 rfl rfl)
theorem dX0_init_125 : decode cX0_init 125 = .ok (.ldc2_w 47, 3) := dk_20 0 47 (dk_at dksX0_init_5 9 rfl rfl)
theorem dX0_init_128 : decode cX0_init 128 = .ok (.lastore, 1) := dk_80 (dk_at dksX0_init_5 12 rfl rfl)
theorem dX0_init_129 : decode cX0_init 129 = .ok (.dup, 1) := dk_89 (dk_at dksX0_init_5 13 rfl rfl)
theorem dX0_init_130 : decode cX0_init 130 = .ok (.bipush 18, 2) := dk_16 18 (dk_at dksX0_init_5 14 rfl rfl)
theorem dX0_init_132 : decode cX0_init 132 = .ok (.ldc2_w 49, 3) := dk_20 0 49 (dk_at dksX0_init_5 16 rfl rfl)
theorem dX0_init_135 : decode cX0_init 135 = .ok (.lastore, 1) := dk_80 (dk_at dksX0_init_5 19 rfl rfl)
theorem dX0_init_136 : decode cX0_init 136 = .ok (.dup, 1) := dk_89 (dk_at dksX0_init_5 20 rfl rfl)
theorem dX0_init_137 : decode cX0_init 137 = .ok (.bipush 19, 2) := dk_16 19 (dk_at dksX0_init_5 21 rfl rfl)
theorem dX0_init_139 : decode cX0_init 139 = .ok (.ldc2_w 51, 3) := dk_20 0 51 (dk_at dksX0_init_6 0 rfl rfl)
theorem dX0_init_142 : decode cX0_init 142 = .ok (.lastore, 1) := dk_80 (dk_at dksX0_init_6 3 rfl rfl)
theorem dX0_init_143 : decode cX0_init 143 = .ok (.dup, 1) := dk_89 (dk_at dksX0_init_6 4 rfl rfl)
theorem dX0_init_144 : decode cX0_init 144 = .ok (.bipush 20, 2) := dk_16 20 (dk_at dksX0_init_6 5 rfl rfl)
theorem dX0_init_146 : decode cX0_init 146 = .ok (.ldc2_w 53, 3) := dk_20 0 53 (dk_at dksX0_init_6 7 rfl rfl)
theorem dX0_init_149 : decode cX0_init 149 = .ok (.lastore, 1) := dk_80 (dk_at dksX0_init_6 10 rfl rfl)
theorem dX0_init_150 : decode cX0_init 150 = .ok (.dup, 1) := dk_89 (dk_at dksX0_init_6 11 rfl rfl)
theorem dX0_init_151 : decode cX0_init 151 = .ok (.bipush 21, 2) := dk_16 21 (dk_at dksX0_init_6 12 rfl rfl)
theorem dX0_init_153 : decode cX0_init 153 = .ok (.ldc2_w 55, 3) := dk_20 0 55 (dk_at dksX0_init_6 14 rfl rfl)
theorem dX0_init_156 : decode cX0_init 156 = .ok (.lastore, 1) := dk_80 (dk_at dksX0_init_6 17 rfl rfl)
theorem dX0_init_157 : decode cX0_init 157 = .ok (.dup, 1) := dk_89 (dk_at dksX0_init_6 18 rfl rfl)
theorem dX0_init_158 : decode cX0_init 158 = .ok (.bipush 22, 2) := dk_16 22 (dk_at dksX0_init_6 19 rfl rfl)
theorem dX0_init_160 : decode cX0_init 160 = .ok (.ldc2_w 57, 3) := dk_20 0 57 (dk_at dksX0_init_6 21 rfl rfl)
theorem dX0_init_163 : decode cX0_init 163 = .ok (.lastore, 1) := dk_80 (dk_at dksX0_init_7 0 rfl rfl)
theorem dX0_init_164 : decode cX0_init 164 = .ok (.dup, 1) := dk_89 (dk_at dksX0_init_7 1 rfl rfl)
theorem dX0_init_165 : decode cX0_init 165 = .ok (.bipush 23, 2) := dk_16 23 (dk_at dksX0_init_7 2 rfl rfl)
theorem dX0_init_167 : decode cX0_init 167 = .ok (.ldc2_w 59, 3) := dk_20 0 59 (dk_at dksX0_init_7 4 rfl rfl)
theorem dX0_init_170 : decode cX0_init 170 = .ok (.lastore, 1) := dk_80 (dk_at dksX0_init_7 7 rfl rfl)
theorem dX0_init_171 : decode cX0_init 171 = .ok (.dup, 1) := dk_89 (dk_at dksX0_init_7 8 rfl rfl)
theorem dX0_init_172 : decode cX0_init 172 = .ok (.bipush 24, 2) := dk_16 24 (dk_at dksX0_init_7 9 rfl rfl)
theorem dX0_init_174 : decode cX0_init 174 = .ok (.ldc2_w 61, 3) := dk_20 0 61 (dk_at dksX0_init_7 11 rfl rfl)
theorem dX0_init_177 : decode cX0_init 177 = .ok (.lastore, 1) := dk_80 (dk_at dksX0_init_7 14 rfl rfl)
theorem dX0_init_178 : decode cX0_init 178 = .ok (.dup, 1) := dk_89 (dk_at dksX0_init_7 15 rfl rfl)
theorem dX0_init_179 : decode cX0_init 179 = .ok (.bipush 25, 2) := dk_16 25 (dk_at dksX0_init_7 16 rfl rfl)
theorem dX0_init_181 : decode cX0_init 181 = .ok (.ldc2_w 63, 3) := dk_20 0 63 (dk_at dksX0_init_7 18 rfl rfl)
theorem dX0_init_184 : decode cX0_init 184 = .ok (.lastore, 1) := dk_80 (dk_at dksX0_init_7 21 rfl rfl)
theorem dX0_init_185 : decode cX0_init 185 = .ok (.dup, 1) := dk_89 (dk_at dksX0_init_7 22 rfl rfl)
theorem dX0_init_186 : decode cX0_init 186 = .ok (.bipush 26, 2) := dk_16 26 (dk_at dksX0_init_8 0 rfl rfl)
theorem dX0_init_188 : decode cX0_init 188 = .ok (.ldc2_w 65, 3) := dk_20 0 65 (dk_at dksX0_init_8 2 rfl rfl)
theorem dX0_init_191 : decode cX0_init 191 = .ok (.lastore, 1) := dk_80 (dk_at dksX0_init_8 5 rfl rfl)
theorem dX0_init_192 : decode cX0_init 192 = .ok (.dup, 1) := dk_89 (dk_at dksX0_init_8 6 rfl rfl)
theorem dX0_init_193 : decode cX0_init 193 = .ok (.bipush 27, 2) := dk_16 27 (dk_at dksX0_init_8 7 rfl rfl)
theorem dX0_init_195 : decode cX0_init 195 = .ok (.ldc2_w 67, 3) := dk_20 0 67 (dk_at dksX0_init_8 9 rfl rfl)
theorem dX0_init_198 : decode cX0_init 198 = .ok (.lastore, 1) := dk_80 (dk_at dksX0_init_8 12 rfl rfl)
theorem dX0_init_199 : decode cX0_init 199 = .ok (.dup, 1) := dk_89 (dk_at dksX0_init_8 13 rfl rfl)
theorem dX0_init_200 : decode cX0_init 200 = .ok (.bipush 28, 2) := dk_16 28 (dk_at dksX0_init_8 14 rfl rfl)
theorem dX0_init_202 : decode cX0_init 202 = .ok (.ldc2_w 69, 3) := dk_20 0 69 (dk_at dksX0_init_8 16 rfl rfl)
theorem dX0_init_205 : decode cX0_init 205 = .ok (.lastore, 1) := dk_80 (dk_at dksX0_init_8 19 rfl rfl)
theorem dX0_init_206 : decode cX0_init 206 = .ok (.putfield 1, 3) := dk_181 0 1 (dk_at dksX0_init_8 20 rfl rfl)
theorem dX0_init_209 : decode cX0_init 209 = .ok (.aload_n 0, 1) := dk_42 (dk_at dksX0_init_8 23 rfl rfl)
theorem dX0_init_210 : decode cX0_init 210 = .ok (.sipush 4000, 3) := dk_17 15 160 (dk_at dksX0_init_9 0 rfl rfl)
theorem dX0_init_213 : decode cX0_init 213 = .ok (.newarray .byte, 2) := dk_188_8 (dk_at dksX0_init_9 3 rfl rfl)
theorem dX0_init_215 : decode cX0_init 215 = .ok (.putfield 71, 3) := dk_181 0 71 (dk_at dksX0_init_9 5 rfl rfl)
theorem dX0_init_218 : decode cX0_init 218 = .ok (.aload_n 0, 1) := dk_42 (dk_at dksX0_init_9 8 rfl rfl)
theorem dX0_init_219 : decode cX0_init 219 = .ok (.iconst (-1), 1) := dk_2 (dk_at dksX0_init_9 9 rfl rfl)
theorem dX0_init_220 : decode cX0_init 220 = .ok (.putfield 75, 3) := dk_181 0 75 (dk_at dksX0_init_9 10 rfl rfl)
theorem dX0_init_223 : decode cX0_init 223 = .ok (.aload_n 0, 1) := dk_42 (dk_at dksX0_init_9 13 rfl rfl)
theorem dX0_init_224 : decode cX0_init 224 = .ok (.new 79, 3) := dk_187 0 79 (dk_at dksX0_init_9 14 rfl rfl)
theorem dX0_init_227 : decode cX0_init 227 = .ok (.dup, 1) := dk_89 (dk_at dksX0_init_9 17 rfl rfl)
theorem dX0_init_228 : decode cX0_init 228 = .ok (.invokespecial 81, 3) := dk_183 0 81 (dk_at dksX0_init_9 18 rfl rfl)
theorem dX0_init_231 : decode cX0_init 231 = .ok (.putfield 82, 3) := dk_181 0 82 (dk_at dksX0_init_9 21 rfl rfl)
theorem dX0_init_234 : decode cX0_init 234 = .ok (.aload_n 0, 1) := dk_42 (dk_at dksX0_init_10 0 rfl rfl)
theorem dX0_init_235 : decode cX0_init 235 = .ok (.new 79, 3) := dk_187 0 79 (dk_at dksX0_init_10 1 rfl rfl)
theorem dX0_init_238 : decode cX0_init 238 = .ok (.dup, 1) := dk_89 (dk_at dksX0_init_10 4 rfl rfl)
theorem dX0_init_239 : decode cX0_init 239 = .ok (.invokespecial 81, 3) := dk_183 0 81 (dk_at dksX0_init_10 5 rfl rfl)
theorem dX0_init_242 : decode cX0_init 242 = .ok (.putfield 86, 3) := dk_181 0 86 (dk_at dksX0_init_10 8 rfl rfl)
theorem dX0_init_245 : decode cX0_init 245 = .ok (.aload_n 0, 1) := dk_42 (dk_at dksX0_init_10 11 rfl rfl)
theorem dX0_init_246 : decode cX0_init 246 = .ok (.new 79, 3) := dk_187 0 79 (dk_at dksX0_init_10 12 rfl rfl)
theorem dX0_init_249 : decode cX0_init 249 = .ok (.dup, 1) := dk_89 (dk_at dksX0_init_10 15 rfl rfl)
theorem dX0_init_250 : decode cX0_init 250 = .ok (.invokespecial 81, 3) := dk_183 0 81 (dk_at dksX0_init_10 16 rfl rfl)
theorem dX0_init_253 : decode cX0_init 253 = .ok (.putfield 89, 3) := dk_181 0 89 (dk_at dksX0_init_10 19 rfl rfl)
theorem dX0_init_256 : decode cX0_init 256 = .ok (.aload_n 0, 1) := dk_42 (dk_at dksX0_init_10 22 rfl rfl)
theorem dX0_init_257 : decode cX0_init 257 = .ok (.new 79, 3) := dk_187 0 79 (dk_at dksX0_init_11 0 rfl rfl)
theorem dX0_init_260 : decode cX0_init 260 = .ok (.dup, 1) := dk_89 (dk_at dksX0_init_11 3 rfl rfl)
theorem dX0_init_261 : decode cX0_init 261 = .ok (.invokespecial 81, 3) := dk_183 0 81 (dk_at dksX0_init_11 4 rfl rfl)
theorem dX0_init_264 : decode cX0_init 264 = .ok (.putfield 92, 3) := dk_181 0 92 (dk_at dksX0_init_11 7 rfl rfl)
theorem dX0_init_267 : decode cX0_init 267 = .ok (.aload_n 0, 1) := dk_42 (dk_at dksX0_init_11 10 rfl rfl)
theorem dX0_init_268 : decode cX0_init 268 = .ok (.bipush 6, 2) := dk_16 6 (dk_at dksX0_init_11 11 rfl rfl)
theorem dX0_init_270 : decode cX0_init 270 = .ok (.newarray .int, 2) := dk_188_10 (dk_at dksX0_init_11 13 rfl rfl)
theorem dX0_init_272 : decode cX0_init 272 = .ok (.putfield 95, 3) := dk_181 0 95 (dk_at dksX0_init_11 15 rfl rfl)
theorem dX0_init_275 : decode cX0_init 275 = .ok (.aload_n 0, 1) := dk_42 (dk_at dksX0_init_11 18 rfl rfl)
theorem dX0_init_276 : decode cX0_init 276 = .ok (.bipush 6, 2) := dk_16 6 (dk_at dksX0_init_11 19 rfl rfl)
theorem dX0_init_278 : decode cX0_init 278 = .ok (.newarray .int, 2) := dk_188_10 (dk_at dksX0_init_11 21 rfl rfl)
theorem dX0_init_280 : decode cX0_init 280 = .ok (.putfield 99, 3) := dk_181 0 99 (dk_at dksX0_init_12 0 rfl rfl)
theorem dX0_init_283 : decode cX0_init 283 = .ok (.aload_n 0, 1) := dk_42 (dk_at dksX0_init_12 3 rfl rfl)
theorem dX0_init_284 : decode cX0_init 284 = .ok (.bipush 6, 2) := dk_16 6 (dk_at dksX0_init_12 4 rfl rfl)
theorem dX0_init_286 : decode cX0_init 286 = .ok (.newarray .int, 2) := dk_188_10 (dk_at dksX0_init_12 6 rfl rfl)
theorem dX0_init_288 : decode cX0_init 288 = .ok (.putfield 102, 3) := dk_181 0 102 (dk_at dksX0_init_12 8 rfl rfl)
theorem dX0_init_291 : decode cX0_init 291 = .ok (.aload_n 0, 1) := dk_42 (dk_at dksX0_init_12 11 rfl rfl)
theorem dX0_init_292 : decode cX0_init 292 = .ok (.new 105, 3) := dk_187 0 105 (dk_at dksX0_init_12 12 rfl rfl)
theorem dX0_init_295 : decode cX0_init 295 = .ok (.dup, 1) := dk_89 (dk_at dksX0_init_12 15 rfl rfl)
theorem dX0_init_296 : decode cX0_init 296 = .ok (.invokespecial 107, 3) := dk_183 0 107 (dk_at dksX0_init_12 16 rfl rfl)
theorem dX0_init_299 : decode cX0_init 299 = .ok (.putfield 108, 3) := dk_181 0 108 (dk_at dksX0_init_12 19 rfl rfl)
theorem dX0_init_302 : decode cX0_init 302 = .ok (.aload_n 0, 1) := dk_42 (dk_at dksX0_init_12 22 rfl rfl)
theorem dX0_init_303 : decode cX0_init 303 = .ok (.new 112, 3) := dk_187 0 112 (dk_at dksX0_init_13 0 rfl rfl)
theorem dX0_init_306 : decode cX0_init 306 = .ok (.dup, 1) := dk_89 (dk_at dksX0_init_13 3 rfl rfl)
theorem dX0_init_307 : decode cX0_init 307 = .ok (.aload_n 0, 1) := dk_42 (dk_at dksX0_init_13 4 rfl rfl)
theorem dX0_init_308 : decode cX0_init 308 = .ok (.invokespecial 114, 3) := dk_183 0 114 (dk_at dksX0_init_13 5 rfl rfl)
theorem dX0_init_311 : decode cX0_init 311 = .ok (.putfield 117, 3) := dk_181 0 117 (dk_at dksX0_init_13 8 rfl rfl)
theorem dX0_init_314 : decode cX0_init 314 = .ok (.aload_n 0, 1) := dk_42 (dk_at dksX0_init_13 11 rfl rfl)
theorem dX0_init_315 : decode cX0_init 315 = .ok (.new 121, 3) := dk_187 0 121 (dk_at dksX0_init_13 12 rfl rfl)
theorem dX0_init_318 : decode cX0_init 318 = .ok (.dup, 1) := dk_89 (dk_at dksX0_init_13 15 rfl rfl)
theorem dX0_init_319 : decode cX0_init 319 = .ok (.aload_n 0, 1) := dk_42 (dk_at dksX0_init_13 16 rfl rfl)
theorem dX0_init_320 : decode cX0_init 320 = .ok (.invokespecial 123, 3) := dk_183 0 123 (dk_at dksX0_init_13 17 rfl rfl)
theorem dX0_init_323 : decode cX0_init 323 = .ok (.putfield 124, 3) := dk_181 0 124 (dk_at dksX0_init_13 20 rfl rfl)
theorem dX0_init_326 : decode cX0_init 326 = .ok (.aload_n 0, 1) := dk_42 (dk_at dksX0_init_13 23 rfl rfl)
theorem dX0_init_327 : decode cX0_init 327 = .ok (.bipush 40, 2) := dk_16 40 (dk_at dksX0_init_14 0 rfl rfl)
theorem dX0_init_329 : decode cX0_init 329 = .ok (.newarray .int, 2) := dk_188_10 (dk_at dksX0_init_14 2 rfl rfl)
theorem dX0_init_331 : decode cX0_init 331 = .ok (.putfield 128, 3) := dk_181 0 128 (dk_at dksX0_init_14 4 rfl rfl)
theorem dX0_init_334 : decode cX0_init 334 = .ok (.aload_n 0, 1) := dk_42 (dk_at dksX0_init_14 7 rfl rfl)
theorem dX0_init_335 : decode cX0_init 335 = .ok (.bipush 40, 2) := dk_16 40 (dk_at dksX0_init_14 8 rfl rfl)
theorem dX0_init_337 : decode cX0_init 337 = .ok (.newarray .int, 2) := dk_188_10 (dk_at dksX0_init_14 10 rfl rfl)
theorem dX0_init_339 : decode cX0_init 339 = .ok (.putfield 131, 3) := dk_181 0 131 (dk_at dksX0_init_14 12 rfl rfl)
theorem dX0_init_342 : decode cX0_init 342 = .ok (.aload_n 0, 1) := dk_42 (dk_at dksX0_init_14 15 rfl rfl)
theorem dX0_init_343 : decode cX0_init 343 = .ok (.sipush 400, 3) := dk_17 1 144 (dk_at dksX0_init_14 16 rfl rfl)
theorem dX0_init_346 : decode cX0_init 346 = .ok (.newarray .int, 2) := dk_188_10 (dk_at dksX0_init_14 19 rfl rfl)
theorem dX0_init_348 : decode cX0_init 348 = .ok (.putfield 134, 3) := dk_181 0 134 (dk_at dksX0_init_14 21 rfl rfl)
theorem dX0_init_351 : decode cX0_init 351 = .ok (.aload_n 0, 1) := dk_42 (dk_at dksX0_init_15 0 rfl rfl)
theorem dX0_init_352 : decode cX0_init 352 = .ok (.sipush 400, 3) := dk_17 1 144 (dk_at dksX0_init_15 1 rfl rfl)
theorem dX0_init_355 : decode cX0_init 355 = .ok (.newarray .int, 2) := dk_188_10 (dk_at dksX0_init_15 4 rfl rfl)
theorem dX0_init_357 : decode cX0_init 357 = .ok (.putfield 137, 3) := dk_181 0 137 (dk_at dksX0_init_15 6 rfl rfl)
theorem dX0_init_360 : decode cX0_init 360 = .ok (.aload_n 0, 1) := dk_42 (dk_at dksX0_init_15 9 rfl rfl)
theorem dX0_init_361 : decode cX0_init 361 = .ok (.sipush 400, 3) := dk_17 1 144 (dk_at dksX0_init_15 10 rfl rfl)
theorem dX0_init_364 : decode cX0_init 364 = .ok (.newarray .int, 2) := dk_188_10 (dk_at dksX0_init_15 13 rfl rfl)
theorem dX0_init_366 : decode cX0_init 366 = .ok (.putfield 140, 3) := dk_181 0 140 (dk_at dksX0_init_15 15 rfl rfl)
theorem dX0_init_369 : decode cX0_init 369 = .ok (.aload_n 0, 1) := dk_42 (dk_at dksX0_init_15 18 rfl rfl)
theorem dX0_init_370 : decode cX0_init 370 = .ok (.sipush 400, 3) := dk_17 1 144 (dk_at dksX0_init_15 19 rfl rfl)
theorem dX0_init_373 : decode cX0_init 373 = .ok (.newarray .int, 2) := dk_188_10 (dk_at dksX0_init_15 22 rfl rfl)
theorem dX0_init_375 : decode cX0_init 375 = .ok (.putfield 143, 3) := dk_181 0 143 (dk_at dksX0_init_16 0 rfl rfl)
theorem dX0_init_378 : decode cX0_init 378 = .ok (.aload_n 0, 1) := dk_42 (dk_at dksX0_init_16 3 rfl rfl)
theorem dX0_init_379 : decode cX0_init 379 = .ok (.bipush 100, 2) := dk_16 100 (dk_at dksX0_init_16 4 rfl rfl)
theorem dX0_init_381 : decode cX0_init 381 = .ok (.newarray .long, 2) := dk_188_11 (dk_at dksX0_init_16 6 rfl rfl)
theorem dX0_init_383 : decode cX0_init 383 = .ok (.putfield 146, 3) := dk_181 0 146 (dk_at dksX0_init_16 8 rfl rfl)
theorem dX0_init_386 : decode cX0_init 386 = .ok (.aload_n 0, 1) := dk_42 (dk_at dksX0_init_16 11 rfl rfl)
theorem dX0_init_387 : decode cX0_init 387 = .ok (.sipush 401, 3) := dk_17 1 145 (dk_at dksX0_init_16 12 rfl rfl)
theorem dX0_init_390 : decode cX0_init 390 = .ok (.newarray .int, 2) := dk_188_10 (dk_at dksX0_init_16 15 rfl rfl)
theorem dX0_init_392 : decode cX0_init 392 = .ok (.putfield 149, 3) := dk_181 0 149 (dk_at dksX0_init_16 17 rfl rfl)
theorem dX0_init_395 : decode cX0_init 395 = .ok (.aload_n 0, 1) := dk_42 (dk_at dksX0_init_16 20 rfl rfl)
theorem dX0_init_396 : decode cX0_init 396 = .ok (.iconst 5, 1) := dk_8 (dk_at dksX0_init_16 21 rfl rfl)
theorem dX0_init_397 : decode cX0_init 397 = .ok (.newarray .int, 2) := dk_188_10 (dk_at dksX0_init_16 22 rfl rfl)
theorem dX0_init_399 : decode cX0_init 399 = .ok (.putfield 152, 3) := dk_181 0 152 (dk_at dksX0_init_17 0 rfl rfl)
theorem dX0_init_402 : decode cX0_init 402 = .ok (.aload_n 0, 1) := dk_42 (dk_at dksX0_init_17 3 rfl rfl)
theorem dX0_init_403 : decode cX0_init 403 = .ok (.sipush 1601, 3) := dk_17 6 65 (dk_at dksX0_init_17 4 rfl rfl)
theorem dX0_init_406 : decode cX0_init 406 = .ok (.newarray .long, 2) := dk_188_11 (dk_at dksX0_init_17 7 rfl rfl)
theorem dX0_init_408 : decode cX0_init 408 = .ok (.putfield 155, 3) := dk_181 0 155 (dk_at dksX0_init_17 9 rfl rfl)
theorem dX0_init_411 : decode cX0_init 411 = .ok (.aload_n 0, 1) := dk_42 (dk_at dksX0_init_17 12 rfl rfl)
theorem dX0_init_412 : decode cX0_init 412 = .ok (.sipush 1601, 3) := dk_17 6 65 (dk_at dksX0_init_17 13 rfl rfl)
theorem dX0_init_415 : decode cX0_init 415 = .ok (.newarray .long, 2) := dk_188_11 (dk_at dksX0_init_17 16 rfl rfl)
theorem dX0_init_417 : decode cX0_init 417 = .ok (.putfield 158, 3) := dk_181 0 158 (dk_at dksX0_init_17 18 rfl rfl)
theorem dX0_init_420 : decode cX0_init 420 = .ok (.aload_n 0, 1) := dk_42 (dk_at dksX0_init_17 21 rfl rfl)
theorem dX0_init_421 : decode cX0_init 421 = .ok (.sipush 1601, 3) := dk_17 6 65 (dk_at dksX0_init_18 0 rfl rfl)
theorem dX0_init_424 : decode cX0_init 424 = .ok (.newarray .long, 2) := dk_188_11 (dk_at dksX0_init_18 3 rfl rfl)
theorem dX0_init_426 : decode cX0_init 426 = .ok (.putfield 161, 3) := dk_181 0 161 (dk_at dksX0_init_18 5 rfl rfl)
theorem dX0_init_429 : decode cX0_init 429 = .ok (.return_, 1) := dk_177 (dk_at dksX0_init_18 8 rfl rfl)
abbrev cX0_type : ByteArray := prog_1_method_3_code
def yX0_type : MethodName := ⟨RX0, "type", "(JI)I"⟩
def dkwX0_type_3 : List UInt8 := [123, 136, 145, 84, 132, 4, 255, 167, 255, 223, 42, 180, 0, 164, 172]
abbrev dktX0_type_3 : List UInt8 := dkwX0_type_3 ++ []
def dkwX0_type_2 : List UInt8 := [155, 0, 34, 42, 180, 0, 71, 42, 89, 180, 0, 164, 90, 4, 96, 181, 0, 164, 31, 16, 8, 21, 4, 104]
abbrev dktX0_type_2 : List UInt8 := dkwX0_type_2 ++ dktX0_type_3
def dkwX0_type_1 : List UInt8 := [42, 180, 0, 164, 29, 96, 17, 15, 160, 164, 0, 6, 16, 252, 172, 29, 4, 100, 54, 4, 21, 4]
abbrev dktX0_type_1 : List UInt8 := dkwX0_type_1 ++ dktX0_type_2
def dkwX0_type_0 : List UInt8 := [29, 155, 0, 9, 29, 16, 8, 164, 0, 6, 16, 254, 172, 29, 154, 0, 10, 42, 3, 181, 0, 164, 3, 172]
abbrev dktX0_type_0 : List UInt8 := dkwX0_type_0 ++ dktX0_type_1
theorem dksX0_type_0 : cX0_type.data.toList.drop 0 = dktX0_type_0 := by decide +kernel
theorem dksX0_type_1 : cX0_type.data.toList.drop 24 = dktX0_type_1 := dk_seg dksX0_type_0 24 rfl rfl
theorem dksX0_type_2 : cX0_type.data.toList.drop 46 = dktX0_type_2 := dk_seg dksX0_type_1 22 rfl rfl
theorem dksX0_type_3 : cX0_type.data.toList.drop 70 = dktX0_type_3 := dk_seg dksX0_type_2 24 rfl rfl
theorem dX0_type_0 : decode cX0_type 0 = .ok (.iload_n 3, 1) := dk_29 (dk_at dksX0_type_0 0 rfl rfl)
theorem dX0_type_1 : decode cX0_type 1 = .ok (.ifCond .lt 9, 3) := dk_155 0 9 (dk_at dksX0_type_0 1 rfl rfl)
theorem dX0_type_4 : decode cX0_type 4 = .ok (.iload_n 3, 1) := dk_29 (dk_at dksX0_type_0 4 rfl rfl)
theorem dX0_type_5 : decode cX0_type 5 = .ok (.bipush 8, 2) := dk_16 8 (dk_at dksX0_type_0 5 rfl rfl)
theorem dX0_type_7 : decode cX0_type 7 = .ok (.if_icmp .le 6, 3) := dk_164 0 6 (dk_at dksX0_type_0 7 rfl rfl)
theorem dX0_type_10 : decode cX0_type 10 = .ok (.bipush (-2), 2) := dk_16 254 (dk_at dksX0_type_0 10 rfl rfl)
theorem dX0_type_12 : decode cX0_type 12 = .ok (.ireturn, 1) := dk_172 (dk_at dksX0_type_0 12 rfl rfl)
theorem dX0_type_13 : decode cX0_type 13 = .ok (.iload_n 3, 1) := dk_29 (dk_at dksX0_type_0 13 rfl rfl)
theorem dX0_type_14 : decode cX0_type 14 = .ok (.ifCond .ne 10, 3) := dk_154 0 10 (dk_at dksX0_type_0 14 rfl rfl)
theorem dX0_type_17 : decode cX0_type 17 = .ok (.aload_n 0, 1) := dk_42 (dk_at dksX0_type_0 17 rfl rfl)
theorem dX0_type_18 : decode cX0_type 18 = .ok (.iconst 0, 1) := dk_3 (dk_at dksX0_type_0 18 rfl rfl)
theorem dX0_type_19 : decode cX0_type 19 = .ok (.putfield 164, 3) := dk_181 0 164 (dk_at dksX0_type_0 19 rfl rfl)
theorem dX0_type_22 : decode cX0_type 22 = .ok (.iconst 0, 1) := dk_3 (dk_at dksX0_type_0 22 rfl rfl)
theorem dX0_type_23 : decode cX0_type 23 = .ok (.ireturn, 1) := dk_172 (dk_at dksX0_type_0 23 rfl rfl)
theorem dX0_type_24 : decode cX0_type 24 = .ok (.aload_n 0, 1) := dk_42 (dk_at dksX0_type_1 0 rfl rfl)
theorem dX0_type_25 : decode cX0_type 25 = .ok (.getfield 164, 3) := dk_180 0 164 (dk_at dksX0_type_1 1 rfl rfl)
theorem dX0_type_28 : decode cX0_type 28 = .ok (.iload_n 3, 1) := dk_29 (dk_at dksX0_type_1 4 rfl rfl)
theorem dX0_type_29 : decode cX0_type 29 = .ok (.iadd, 1) := dk_96 (dk_at dksX0_type_1 5 rfl rfl)
theorem dX0_type_30 : decode cX0_type 30 = .ok (.sipush 4000, 3) := dk_17 15 160 (dk_at dksX0_type_1 6 rfl rfl)
theorem dX0_type_33 : decode cX0_type 33 = .ok (.if_icmp .le 6, 3) := dk_164 0 6 (dk_at dksX0_type_1 9 rfl rfl)
theorem dX0_type_36 : decode cX0_type 36 = .ok (.bipush (-4), 2) := dk_16 252 (dk_at dksX0_type_1 12 rfl rfl)
theorem dX0_type_38 : decode cX0_type 38 = .ok (.ireturn, 1) := dk_172 (dk_at dksX0_type_1 14 rfl rfl)
theorem dX0_type_39 : decode cX0_type 39 = .ok (.iload_n 3, 1) := dk_29 (dk_at dksX0_type_1 15 rfl rfl)
theorem dX0_type_40 : decode cX0_type 40 = .ok (.iconst 1, 1) := dk_4 (dk_at dksX0_type_1 16 rfl rfl)
theorem dX0_type_41 : decode cX0_type 41 = .ok (.isub, 1) := dk_100 (dk_at dksX0_type_1 17 rfl rfl)
theorem dX0_type_42 : decode cX0_type 42 = .ok (.istore 4, 2) := dk_54 4 (dk_at dksX0_type_1 18 rfl rfl)
theorem dX0_type_44 : decode cX0_type 44 = .ok (.iload 4, 2) := dk_21 4 (dk_at dksX0_type_1 20 rfl rfl)
theorem dX0_type_46 : decode cX0_type 46 = .ok (.ifCond .lt 34, 3) := dk_155 0 34 (dk_at dksX0_type_2 0 rfl rfl)
theorem dX0_type_49 : decode cX0_type 49 = .ok (.aload_n 0, 1) := dk_42 (dk_at dksX0_type_2 3 rfl rfl)
theorem dX0_type_50 : decode cX0_type 50 = .ok (.getfield 71, 3) := dk_180 0 71 (dk_at dksX0_type_2 4 rfl rfl)
theorem dX0_type_53 : decode cX0_type 53 = .ok (.aload_n 0, 1) := dk_42 (dk_at dksX0_type_2 7 rfl rfl)
theorem dX0_type_54 : decode cX0_type 54 = .ok (.dup, 1) := dk_89 (dk_at dksX0_type_2 8 rfl rfl)
theorem dX0_type_55 : decode cX0_type 55 = .ok (.getfield 164, 3) := dk_180 0 164 (dk_at dksX0_type_2 9 rfl rfl)
theorem dX0_type_58 : decode cX0_type 58 = .ok (.dup_x1, 1) := dk_90 (dk_at dksX0_type_2 12 rfl rfl)
theorem dX0_type_59 : decode cX0_type 59 = .ok (.iconst 1, 1) := dk_4 (dk_at dksX0_type_2 13 rfl rfl)
theorem dX0_type_60 : decode cX0_type 60 = .ok (.iadd, 1) := dk_96 (dk_at dksX0_type_2 14 rfl rfl)
theorem dX0_type_61 : decode cX0_type 61 = .ok (.putfield 164, 3) := dk_181 0 164 (dk_at dksX0_type_2 15 rfl rfl)
theorem dX0_type_64 : decode cX0_type 64 = .ok (.lload_n 1, 1) := dk_31 (dk_at dksX0_type_2 18 rfl rfl)
theorem dX0_type_65 : decode cX0_type 65 = .ok (.bipush 8, 2) := dk_16 8 (dk_at dksX0_type_2 19 rfl rfl)
theorem dX0_type_67 : decode cX0_type 67 = .ok (.iload 4, 2) := dk_21 4 (dk_at dksX0_type_2 21 rfl rfl)
theorem dX0_type_69 : decode cX0_type 69 = .ok (.imul, 1) := dk_104 (dk_at dksX0_type_2 23 rfl rfl)
theorem dX0_type_70 : decode cX0_type 70 = .ok (.lshr, 1) := dk_123 (dk_at dksX0_type_3 0 rfl rfl)
theorem dX0_type_71 : decode cX0_type 71 = .ok (.l2i, 1) := dk_136 (dk_at dksX0_type_3 1 rfl rfl)
theorem dX0_type_72 : decode cX0_type 72 = .ok (.i2b, 1) := dk_145 (dk_at dksX0_type_3 2 rfl rfl)
theorem dX0_type_73 : decode cX0_type 73 = .ok (.bastore, 1) := dk_84 (dk_at dksX0_type_3 3 rfl rfl)
theorem dX0_type_74 : decode cX0_type 74 = .ok (.iinc 4 (-1), 3) := dk_132 4 255 (dk_at dksX0_type_3 4 rfl rfl)
theorem dX0_type_77 : decode cX0_type 77 = .ok (.goto (-33), 3) := dk_167 255 223 (dk_at dksX0_type_3 7 rfl rfl)
theorem dX0_type_80 : decode cX0_type 80 = .ok (.aload_n 0, 1) := dk_42 (dk_at dksX0_type_3 10 rfl rfl)
theorem dX0_type_81 : decode cX0_type 81 = .ok (.getfield 164, 3) := dk_180 0 164 (dk_at dksX0_type_3 11 rfl rfl)
theorem dX0_type_84 : decode cX0_type 84 = .ok (.ireturn, 1) := dk_172 (dk_at dksX0_type_3 14 rfl rfl)
abbrev cX0_place : ByteArray := prog_1_method_4_code
def yX0_place : MethodName := ⟨RX0, "place", "()I"⟩
theorem dX0_place_0 : decode cX0_place 0 = .ok (.aload_n 0, 1) := by decide +kernel
theorem dX0_place_1 : decode cX0_place 1 = .ok (.getfield 75, 3) := by decide +kernel
theorem dX0_place_4 : decode cX0_place 4 = .ok (.ireturn, 1) := by decide +kernel
abbrev cX0_wording : ByteArray := prog_1_method_7_code
def yX0_wording : MethodName := ⟨RX0, "wording", "()I"⟩
def dkwX0_wording_2 : List UInt8 := [44, 182, 0, 213, 60, 167, 0, 10, 77, 42, 44, 182, 0, 217, 60, 42, 3, 181, 0, 164, 27, 172]
abbrev dktX0_wording_2 : List UInt8 := dkwX0_wording_2 ++ []
def dkwX0_wording_1 : List UInt8 := [187, 0, 179, 89, 183, 0, 204, 77, 187, 0, 205, 89, 42, 44, 17, 1, 44, 183, 0, 207, 182, 0, 210, 42]
abbrev dktX0_wording_1 : List UInt8 := dkwX0_wording_1 ++ dktX0_wording_2
def dkwX0_wording_0 : List UInt8 := [42, 180, 0, 82, 185, 0, 201, 1, 0, 16, 12, 160, 0, 6, 16, 252, 172, 42, 2, 181, 0, 75]
abbrev dktX0_wording_0 : List UInt8 := dkwX0_wording_0 ++ dktX0_wording_1
theorem dksX0_wording_0 : cX0_wording.data.toList.drop 0 = dktX0_wording_0 := by decide +kernel
theorem dksX0_wording_1 : cX0_wording.data.toList.drop 22 = dktX0_wording_1 := dk_seg dksX0_wording_0 22 rfl rfl
theorem dksX0_wording_2 : cX0_wording.data.toList.drop 46 = dktX0_wording_2 := dk_seg dksX0_wording_1 24 rfl rfl
theorem dX0_wording_0 : decode cX0_wording 0 = .ok (.aload_n 0, 1) := dk_42 (dk_at dksX0_wording_0 0 rfl rfl)
theorem dX0_wording_1 : decode cX0_wording 1 = .ok (.getfield 82, 3) := dk_180 0 82 (dk_at dksX0_wording_0 1 rfl rfl)
theorem dX0_wording_4 : decode cX0_wording 4 = .ok (.invokeinterface 201 1, 5) := by decide +kernel
theorem dX0_wording_9 : decode cX0_wording 9 = .ok (.bipush 12, 2) := dk_16 12 (dk_at dksX0_wording_0 9 rfl rfl)
theorem dX0_wording_11 : decode cX0_wording 11 = .ok (.if_icmp .ne 6, 3) := dk_160 0 6 (dk_at dksX0_wording_0 11 rfl rfl)
theorem dX0_wording_14 : decode cX0_wording 14 = .ok (.bipush (-4), 2) := dk_16 252 (dk_at dksX0_wording_0 14 rfl rfl)
theorem dX0_wording_16 : decode cX0_wording 16 = .ok (.ireturn, 1) := dk_172 (dk_at dksX0_wording_0 16 rfl rfl)
theorem dX0_wording_17 : decode cX0_wording 17 = .ok (.aload_n 0, 1) := dk_42 (dk_at dksX0_wording_0 17 rfl rfl)
theorem dX0_wording_18 : decode cX0_wording 18 = .ok (.iconst (-1), 1) := dk_2 (dk_at dksX0_wording_0 18 rfl rfl)
theorem dX0_wording_19 : decode cX0_wording 19 = .ok (.putfield 75, 3) := dk_181 0 75 (dk_at dksX0_wording_0 19 rfl rfl)
theorem dX0_wording_22 : decode cX0_wording 22 = .ok (.new 179, 3) := dk_187 0 179 (dk_at dksX0_wording_1 0 rfl rfl)
theorem dX0_wording_25 : decode cX0_wording 25 = .ok (.dup, 1) := dk_89 (dk_at dksX0_wording_1 3 rfl rfl)
theorem dX0_wording_26 : decode cX0_wording 26 = .ok (.invokespecial 204, 3) := dk_183 0 204 (dk_at dksX0_wording_1 4 rfl rfl)
theorem dX0_wording_29 : decode cX0_wording 29 = .ok (.astore_n 2, 1) := dk_77 (dk_at dksX0_wording_1 7 rfl rfl)
theorem dX0_wording_30 : decode cX0_wording 30 = .ok (.new 205, 3) := dk_187 0 205 (dk_at dksX0_wording_1 8 rfl rfl)
theorem dX0_wording_33 : decode cX0_wording 33 = .ok (.dup, 1) := dk_89 (dk_at dksX0_wording_1 11 rfl rfl)
theorem dX0_wording_34 : decode cX0_wording 34 = .ok (.aload_n 0, 1) := dk_42 (dk_at dksX0_wording_1 12 rfl rfl)
theorem dX0_wording_35 : decode cX0_wording 35 = .ok (.aload_n 2, 1) := dk_44 (dk_at dksX0_wording_1 13 rfl rfl)
theorem dX0_wording_36 : decode cX0_wording 36 = .ok (.sipush 300, 3) := dk_17 1 44 (dk_at dksX0_wording_1 14 rfl rfl)
theorem dX0_wording_39 : decode cX0_wording 39 = .ok (.invokespecial 207, 3) := dk_183 0 207 (dk_at dksX0_wording_1 17 rfl rfl)
theorem dX0_wording_42 : decode cX0_wording 42 = .ok (.invokevirtual 210, 3) := dk_182 0 210 (dk_at dksX0_wording_1 20 rfl rfl)
theorem dX0_wording_45 : decode cX0_wording 45 = .ok (.aload_n 0, 1) := dk_42 (dk_at dksX0_wording_1 23 rfl rfl)
theorem dX0_wording_46 : decode cX0_wording 46 = .ok (.aload_n 2, 1) := dk_44 (dk_at dksX0_wording_2 0 rfl rfl)
theorem dX0_wording_47 : decode cX0_wording 47 = .ok (.invokevirtual 213, 3) := dk_182 0 213 (dk_at dksX0_wording_2 1 rfl rfl)
theorem dX0_wording_50 : decode cX0_wording 50 = .ok (.istore_n 1, 1) := dk_60 (dk_at dksX0_wording_2 4 rfl rfl)
theorem dX0_wording_51 : decode cX0_wording 51 = .ok (.goto 10, 3) := dk_167 0 10 (dk_at dksX0_wording_2 5 rfl rfl)
theorem dX0_wording_54 : decode cX0_wording 54 = .ok (.astore_n 2, 1) := dk_77 (dk_at dksX0_wording_2 8 rfl rfl)
theorem dX0_wording_55 : decode cX0_wording 55 = .ok (.aload_n 0, 1) := dk_42 (dk_at dksX0_wording_2 9 rfl rfl)
theorem dX0_wording_56 : decode cX0_wording 56 = .ok (.aload_n 2, 1) := dk_44 (dk_at dksX0_wording_2 10 rfl rfl)
theorem dX0_wording_57 : decode cX0_wording 57 = .ok (.invokevirtual 217, 3) := dk_182 0 217 (dk_at dksX0_wording_2 11 rfl rfl)
theorem dX0_wording_60 : decode cX0_wording 60 = .ok (.istore_n 1, 1) := dk_60 (dk_at dksX0_wording_2 14 rfl rfl)
theorem dX0_wording_61 : decode cX0_wording 61 = .ok (.aload_n 0, 1) := dk_42 (dk_at dksX0_wording_2 15 rfl rfl)
theorem dX0_wording_62 : decode cX0_wording 62 = .ok (.iconst 0, 1) := dk_3 (dk_at dksX0_wording_2 16 rfl rfl)
theorem dX0_wording_63 : decode cX0_wording 63 = .ok (.putfield 164, 3) := dk_181 0 164 (dk_at dksX0_wording_2 17 rfl rfl)
theorem dX0_wording_66 : decode cX0_wording 66 = .ok (.iload_n 1, 1) := dk_27 (dk_at dksX0_wording_2 20 rfl rfl)
theorem dX0_wording_67 : decode cX0_wording 67 = .ok (.ireturn, 1) := dk_172 (dk_at dksX0_wording_2 21 rfl rfl)
abbrev cX0_isWord : ByteArray := prog_1_method_1_code
def yX0_isWord : MethodName := ⟨RX0, "isWord", "(J)Z"⟩
def dkwX0_isWord_1 : List UInt8 := [132, 3, 1, 167, 255, 231, 3, 172]
abbrev dktX0_isWord_1 : List UInt8 := dkwX0_isWord_1 ++ []
def dkwX0_isWord_0 : List UInt8 := [3, 62, 29, 42, 180, 0, 1, 190, 162, 0, 22, 42, 180, 0, 1, 29, 47, 31, 148, 154, 0, 5, 4, 172]
abbrev dktX0_isWord_0 : List UInt8 := dkwX0_isWord_0 ++ dktX0_isWord_1
theorem dksX0_isWord_0 : cX0_isWord.data.toList.drop 0 = dktX0_isWord_0 := by decide +kernel
theorem dksX0_isWord_1 : cX0_isWord.data.toList.drop 24 = dktX0_isWord_1 := dk_seg dksX0_isWord_0 24 rfl rfl
theorem dX0_isWord_0 : decode cX0_isWord 0 = .ok (.iconst 0, 1) := dk_3 (dk_at dksX0_isWord_0 0 rfl rfl)
theorem dX0_isWord_1 : decode cX0_isWord 1 = .ok (.istore_n 3, 1) := dk_62 (dk_at dksX0_isWord_0 1 rfl rfl)
theorem dX0_isWord_2 : decode cX0_isWord 2 = .ok (.iload_n 3, 1) := dk_29 (dk_at dksX0_isWord_0 2 rfl rfl)
theorem dX0_isWord_3 : decode cX0_isWord 3 = .ok (.aload_n 0, 1) := dk_42 (dk_at dksX0_isWord_0 3 rfl rfl)
theorem dX0_isWord_4 : decode cX0_isWord 4 = .ok (.getfield 1, 3) := dk_180 0 1 (dk_at dksX0_isWord_0 4 rfl rfl)
theorem dX0_isWord_7 : decode cX0_isWord 7 = .ok (.arraylength, 1) := dk_190 (dk_at dksX0_isWord_0 7 rfl rfl)
theorem dX0_isWord_8 : decode cX0_isWord 8 = .ok (.if_icmp .ge 22, 3) := dk_162 0 22 (dk_at dksX0_isWord_0 8 rfl rfl)
theorem dX0_isWord_11 : decode cX0_isWord 11 = .ok (.aload_n 0, 1) := dk_42 (dk_at dksX0_isWord_0 11 rfl rfl)
theorem dX0_isWord_12 : decode cX0_isWord 12 = .ok (.getfield 1, 3) := dk_180 0 1 (dk_at dksX0_isWord_0 12 rfl rfl)
theorem dX0_isWord_15 : decode cX0_isWord 15 = .ok (.iload_n 3, 1) := dk_29 (dk_at dksX0_isWord_0 15 rfl rfl)
theorem dX0_isWord_16 : decode cX0_isWord 16 = .ok (.laload, 1) := dk_47 (dk_at dksX0_isWord_0 16 rfl rfl)
theorem dX0_isWord_17 : decode cX0_isWord 17 = .ok (.lload_n 1, 1) := dk_31 (dk_at dksX0_isWord_0 17 rfl rfl)
theorem dX0_isWord_18 : decode cX0_isWord 18 = .ok (.lcmp, 1) := dk_148 (dk_at dksX0_isWord_0 18 rfl rfl)
theorem dX0_isWord_19 : decode cX0_isWord 19 = .ok (.ifCond .ne 5, 3) := dk_154 0 5 (dk_at dksX0_isWord_0 19 rfl rfl)
theorem dX0_isWord_22 : decode cX0_isWord 22 = .ok (.iconst 1, 1) := dk_4 (dk_at dksX0_isWord_0 22 rfl rfl)
theorem dX0_isWord_23 : decode cX0_isWord 23 = .ok (.ireturn, 1) := dk_172 (dk_at dksX0_isWord_0 23 rfl rfl)
theorem dX0_isWord_24 : decode cX0_isWord 24 = .ok (.iinc 3 1, 3) := dk_132 3 1 (dk_at dksX0_isWord_1 0 rfl rfl)
theorem dX0_isWord_27 : decode cX0_isWord 27 = .ok (.goto (-25), 3) := dk_167 255 231 (dk_at dksX0_isWord_1 3 rfl rfl)
theorem dX0_isWord_30 : decode cX0_isWord 30 = .ok (.iconst 0, 1) := dk_3 (dk_at dksX0_isWord_1 6 rfl rfl)
theorem dX0_isWord_31 : decode cX0_isWord 31 = .ok (.ireturn, 1) := dk_172 (dk_at dksX0_isWord_1 7 rfl rfl)
abbrev cX0_finish : ByteArray := prog_1_method_6_code
def yX0_finish : MethodName := ⟨RX0, "finish", "(LCoverHouse$Wording;)I"⟩
def dkwX0_finish_2 : List UInt8 := [185, 0, 195, 2, 0, 87, 42, 180, 0, 82, 185, 0, 201, 1, 0, 172]
abbrev dktX0_finish_2 : List UInt8 := dkwX0_finish_2 ++ []
def dkwX0_finish_1 : List UInt8 := [183, 0, 184, 191, 43, 182, 0, 187, 87, 43, 42, 180, 0, 108, 182, 0, 191, 42, 180, 0, 82, 43]
abbrev dktX0_finish_1 : List UInt8 := dkwX0_finish_1 ++ dktX0_finish_2
def dkwX0_finish_0 : List UInt8 := [43, 42, 180, 0, 124, 180, 0, 175, 182, 0, 178, 154, 0, 17, 187, 0, 168, 89, 16, 7, 42, 180, 0, 164]
abbrev dktX0_finish_0 : List UInt8 := dkwX0_finish_0 ++ dktX0_finish_1
theorem dksX0_finish_0 : cX0_finish.data.toList.drop 0 = dktX0_finish_0 := by decide +kernel
theorem dksX0_finish_1 : cX0_finish.data.toList.drop 24 = dktX0_finish_1 := dk_seg dksX0_finish_0 24 rfl rfl
theorem dksX0_finish_2 : cX0_finish.data.toList.drop 46 = dktX0_finish_2 := dk_seg dksX0_finish_1 22 rfl rfl
theorem dX0_finish_0 : decode cX0_finish 0 = .ok (.aload_n 1, 1) := dk_43 (dk_at dksX0_finish_0 0 rfl rfl)
theorem dX0_finish_1 : decode cX0_finish 1 = .ok (.aload_n 0, 1) := dk_42 (dk_at dksX0_finish_0 1 rfl rfl)
theorem dX0_finish_2 : decode cX0_finish 2 = .ok (.getfield 124, 3) := dk_180 0 124 (dk_at dksX0_finish_0 2 rfl rfl)
theorem dX0_finish_5 : decode cX0_finish 5 = .ok (.getfield 175, 3) := dk_180 0 175 (dk_at dksX0_finish_0 5 rfl rfl)
theorem dX0_finish_8 : decode cX0_finish 8 = .ok (.invokevirtual 178, 3) := dk_182 0 178 (dk_at dksX0_finish_0 8 rfl rfl)
theorem dX0_finish_11 : decode cX0_finish 11 = .ok (.ifCond .ne 17, 3) := dk_154 0 17 (dk_at dksX0_finish_0 11 rfl rfl)
theorem dX0_finish_14 : decode cX0_finish 14 = .ok (.new 168, 3) := dk_187 0 168 (dk_at dksX0_finish_0 14 rfl rfl)
theorem dX0_finish_17 : decode cX0_finish 17 = .ok (.dup, 1) := dk_89 (dk_at dksX0_finish_0 17 rfl rfl)
theorem dX0_finish_18 : decode cX0_finish 18 = .ok (.bipush 7, 2) := dk_16 7 (dk_at dksX0_finish_0 18 rfl rfl)
theorem dX0_finish_20 : decode cX0_finish 20 = .ok (.aload_n 0, 1) := dk_42 (dk_at dksX0_finish_0 20 rfl rfl)
theorem dX0_finish_21 : decode cX0_finish 21 = .ok (.getfield 164, 3) := dk_180 0 164 (dk_at dksX0_finish_0 21 rfl rfl)
theorem dX0_finish_24 : decode cX0_finish 24 = .ok (.invokespecial 184, 3) := dk_183 0 184 (dk_at dksX0_finish_1 0 rfl rfl)
theorem dX0_finish_27 : decode cX0_finish 27 = .ok (.athrow, 1) := dk_191 (dk_at dksX0_finish_1 3 rfl rfl)
theorem dX0_finish_28 : decode cX0_finish 28 = .ok (.aload_n 1, 1) := dk_43 (dk_at dksX0_finish_1 4 rfl rfl)
theorem dX0_finish_29 : decode cX0_finish 29 = .ok (.invokevirtual 187, 3) := dk_182 0 187 (dk_at dksX0_finish_1 5 rfl rfl)
theorem dX0_finish_32 : decode cX0_finish 32 = .ok (.pop, 1) := dk_87 (dk_at dksX0_finish_1 8 rfl rfl)
theorem dX0_finish_33 : decode cX0_finish 33 = .ok (.aload_n 1, 1) := dk_43 (dk_at dksX0_finish_1 9 rfl rfl)
theorem dX0_finish_34 : decode cX0_finish 34 = .ok (.aload_n 0, 1) := dk_42 (dk_at dksX0_finish_1 10 rfl rfl)
theorem dX0_finish_35 : decode cX0_finish 35 = .ok (.getfield 108, 3) := dk_180 0 108 (dk_at dksX0_finish_1 11 rfl rfl)
theorem dX0_finish_38 : decode cX0_finish 38 = .ok (.invokevirtual 191, 3) := dk_182 0 191 (dk_at dksX0_finish_1 14 rfl rfl)
theorem dX0_finish_41 : decode cX0_finish 41 = .ok (.aload_n 0, 1) := dk_42 (dk_at dksX0_finish_1 17 rfl rfl)
theorem dX0_finish_42 : decode cX0_finish 42 = .ok (.getfield 82, 3) := dk_180 0 82 (dk_at dksX0_finish_1 18 rfl rfl)
theorem dX0_finish_45 : decode cX0_finish 45 = .ok (.aload_n 1, 1) := dk_43 (dk_at dksX0_finish_1 21 rfl rfl)
theorem dX0_finish_46 : decode cX0_finish 46 = .ok (.invokeinterface 195 2, 5) := by decide +kernel
theorem dX0_finish_51 : decode cX0_finish 51 = .ok (.pop, 1) := dk_87 (dk_at dksX0_finish_2 5 rfl rfl)
theorem dX0_finish_52 : decode cX0_finish 52 = .ok (.aload_n 0, 1) := dk_42 (dk_at dksX0_finish_2 6 rfl rfl)
theorem dX0_finish_53 : decode cX0_finish 53 = .ok (.getfield 82, 3) := dk_180 0 82 (dk_at dksX0_finish_2 7 rfl rfl)
theorem dX0_finish_56 : decode cX0_finish 56 = .ok (.invokeinterface 201 1, 5) := by decide +kernel
theorem dX0_finish_61 : decode cX0_finish 61 = .ok (.ireturn, 1) := dk_172 (dk_at dksX0_finish_2 15 rfl rfl)
abbrev cX0_failed : ByteArray := prog_1_method_5_code
def yX0_failed : MethodName := ⟨RX0, "failed", "(LCoverHouse$Fault;)I"⟩
def dkwX0_failed_0 : List UInt8 := [42, 43, 180, 0, 167, 181, 0, 75, 16, 246, 43, 180, 0, 172, 100, 172]
abbrev dktX0_failed_0 : List UInt8 := dkwX0_failed_0 ++ []
theorem dksX0_failed_0 : cX0_failed.data.toList.drop 0 = dktX0_failed_0 := by decide +kernel
theorem dX0_failed_0 : decode cX0_failed 0 = .ok (.aload_n 0, 1) := dk_42 (dk_at dksX0_failed_0 0 rfl rfl)
theorem dX0_failed_1 : decode cX0_failed 1 = .ok (.aload_n 1, 1) := dk_43 (dk_at dksX0_failed_0 1 rfl rfl)
theorem dX0_failed_2 : decode cX0_failed 2 = .ok (.getfield 167, 3) := dk_180 0 167 (dk_at dksX0_failed_0 2 rfl rfl)
theorem dX0_failed_5 : decode cX0_failed 5 = .ok (.putfield 75, 3) := dk_181 0 75 (dk_at dksX0_failed_0 5 rfl rfl)
theorem dX0_failed_8 : decode cX0_failed 8 = .ok (.bipush (-10), 2) := dk_16 246 (dk_at dksX0_failed_0 8 rfl rfl)
theorem dX0_failed_10 : decode cX0_failed 10 = .ok (.aload_n 1, 1) := dk_43 (dk_at dksX0_failed_0 10 rfl rfl)
theorem dX0_failed_11 : decode cX0_failed 11 = .ok (.getfield 172, 3) := dk_180 0 172 (dk_at dksX0_failed_0 11 rfl rfl)
theorem dX0_failed_14 : decode cX0_failed 14 = .ok (.isub, 1) := dk_100 (dk_at dksX0_failed_0 14 rfl rfl)
theorem dX0_failed_15 : decode cX0_failed 15 = .ok (.ireturn, 1) := dk_172 (dk_at dksX0_failed_0 15 rfl rfl)
abbrev cX0_endorse : ByteArray := prog_1_method_10_code
def yX0_endorse : MethodName := ⟨RX0, "endorse", "(I)I"⟩
def dkwX0_endorse_3 : List UInt8 := [45, 182, 0, 213, 61, 167, 0, 10, 78, 42, 45, 182, 0, 217, 61, 42, 3, 181, 0, 164, 28, 172]
abbrev dktX0_endorse_3 : List UInt8 := dkwX0_endorse_3 ++ []
def dkwX0_endorse_2 : List UInt8 := [182, 0, 233, 187, 0, 205, 89, 42, 45, 17, 15, 160, 183, 0, 207, 42, 27, 182, 0, 229, 182, 0, 237, 42]
abbrev dktX0_endorse_2 : List UInt8 := dkwX0_endorse_2 ++ dktX0_endorse_3
def dkwX0_endorse_1 : List UInt8 := [16, 252, 172, 42, 2, 181, 0, 75, 187, 0, 179, 89, 183, 0, 204, 78, 45, 42, 27, 182, 0, 229]
abbrev dktX0_endorse_1 : List UInt8 := dkwX0_endorse_1 ++ dktX0_endorse_2
def dkwX0_endorse_0 : List UInt8 := [42, 27, 182, 0, 225, 154, 0, 5, 2, 172, 42, 180, 0, 82, 185, 0, 201, 1, 0, 16, 12, 160, 0, 6]
abbrev dktX0_endorse_0 : List UInt8 := dkwX0_endorse_0 ++ dktX0_endorse_1
theorem dksX0_endorse_0 : cX0_endorse.data.toList.drop 0 = dktX0_endorse_0 := by decide +kernel
theorem dksX0_endorse_1 : cX0_endorse.data.toList.drop 24 = dktX0_endorse_1 := dk_seg dksX0_endorse_0 24 rfl rfl
theorem dksX0_endorse_2 : cX0_endorse.data.toList.drop 46 = dktX0_endorse_2 := dk_seg dksX0_endorse_1 22 rfl rfl
theorem dksX0_endorse_3 : cX0_endorse.data.toList.drop 70 = dktX0_endorse_3 := dk_seg dksX0_endorse_2 24 rfl rfl
theorem dX0_endorse_0 : decode cX0_endorse 0 = .ok (.aload_n 0, 1) := dk_42 (dk_at dksX0_endorse_0 0 rfl rfl)
theorem dX0_endorse_1 : decode cX0_endorse 1 = .ok (.iload_n 1, 1) := dk_27 (dk_at dksX0_endorse_0 1 rfl rfl)
theorem dX0_endorse_2 : decode cX0_endorse 2 = .ok (.invokevirtual 225, 3) := dk_182 0 225 (dk_at dksX0_endorse_0 2 rfl rfl)
theorem dX0_endorse_5 : decode cX0_endorse 5 = .ok (.ifCond .ne 5, 3) := dk_154 0 5 (dk_at dksX0_endorse_0 5 rfl rfl)
theorem dX0_endorse_8 : decode cX0_endorse 8 = .ok (.iconst (-1), 1) := dk_2 (dk_at dksX0_endorse_0 8 rfl rfl)
theorem dX0_endorse_9 : decode cX0_endorse 9 = .ok (.ireturn, 1) := dk_172 (dk_at dksX0_endorse_0 9 rfl rfl)
theorem dX0_endorse_10 : decode cX0_endorse 10 = .ok (.aload_n 0, 1) := dk_42 (dk_at dksX0_endorse_0 10 rfl rfl)
theorem dX0_endorse_11 : decode cX0_endorse 11 = .ok (.getfield 82, 3) := dk_180 0 82 (dk_at dksX0_endorse_0 11 rfl rfl)
theorem dX0_endorse_14 : decode cX0_endorse 14 = .ok (.invokeinterface 201 1, 5) := by decide +kernel
theorem dX0_endorse_19 : decode cX0_endorse 19 = .ok (.bipush 12, 2) := dk_16 12 (dk_at dksX0_endorse_0 19 rfl rfl)
theorem dX0_endorse_21 : decode cX0_endorse 21 = .ok (.if_icmp .ne 6, 3) := dk_160 0 6 (dk_at dksX0_endorse_0 21 rfl rfl)
theorem dX0_endorse_24 : decode cX0_endorse 24 = .ok (.bipush (-4), 2) := dk_16 252 (dk_at dksX0_endorse_1 0 rfl rfl)
theorem dX0_endorse_26 : decode cX0_endorse 26 = .ok (.ireturn, 1) := dk_172 (dk_at dksX0_endorse_1 2 rfl rfl)
theorem dX0_endorse_27 : decode cX0_endorse 27 = .ok (.aload_n 0, 1) := dk_42 (dk_at dksX0_endorse_1 3 rfl rfl)
theorem dX0_endorse_28 : decode cX0_endorse 28 = .ok (.iconst (-1), 1) := dk_2 (dk_at dksX0_endorse_1 4 rfl rfl)
theorem dX0_endorse_29 : decode cX0_endorse 29 = .ok (.putfield 75, 3) := dk_181 0 75 (dk_at dksX0_endorse_1 5 rfl rfl)
theorem dX0_endorse_32 : decode cX0_endorse 32 = .ok (.new 179, 3) := dk_187 0 179 (dk_at dksX0_endorse_1 8 rfl rfl)
theorem dX0_endorse_35 : decode cX0_endorse 35 = .ok (.dup, 1) := dk_89 (dk_at dksX0_endorse_1 11 rfl rfl)
theorem dX0_endorse_36 : decode cX0_endorse 36 = .ok (.invokespecial 204, 3) := dk_183 0 204 (dk_at dksX0_endorse_1 12 rfl rfl)
theorem dX0_endorse_39 : decode cX0_endorse 39 = .ok (.astore_n 3, 1) := dk_78 (dk_at dksX0_endorse_1 15 rfl rfl)
theorem dX0_endorse_40 : decode cX0_endorse 40 = .ok (.aload_n 3, 1) := dk_45 (dk_at dksX0_endorse_1 16 rfl rfl)
theorem dX0_endorse_41 : decode cX0_endorse 41 = .ok (.aload_n 0, 1) := dk_42 (dk_at dksX0_endorse_1 17 rfl rfl)
theorem dX0_endorse_42 : decode cX0_endorse 42 = .ok (.iload_n 1, 1) := dk_27 (dk_at dksX0_endorse_1 18 rfl rfl)
theorem dX0_endorse_43 : decode cX0_endorse 43 = .ok (.invokevirtual 229, 3) := dk_182 0 229 (dk_at dksX0_endorse_1 19 rfl rfl)
theorem dX0_endorse_46 : decode cX0_endorse 46 = .ok (.invokevirtual 233, 3) := dk_182 0 233 (dk_at dksX0_endorse_2 0 rfl rfl)
theorem dX0_endorse_49 : decode cX0_endorse 49 = .ok (.new 205, 3) := dk_187 0 205 (dk_at dksX0_endorse_2 3 rfl rfl)
theorem dX0_endorse_52 : decode cX0_endorse 52 = .ok (.dup, 1) := dk_89 (dk_at dksX0_endorse_2 6 rfl rfl)
theorem dX0_endorse_53 : decode cX0_endorse 53 = .ok (.aload_n 0, 1) := dk_42 (dk_at dksX0_endorse_2 7 rfl rfl)
theorem dX0_endorse_54 : decode cX0_endorse 54 = .ok (.aload_n 3, 1) := dk_45 (dk_at dksX0_endorse_2 8 rfl rfl)
theorem dX0_endorse_55 : decode cX0_endorse 55 = .ok (.sipush 4000, 3) := dk_17 15 160 (dk_at dksX0_endorse_2 9 rfl rfl)
theorem dX0_endorse_58 : decode cX0_endorse 58 = .ok (.invokespecial 207, 3) := dk_183 0 207 (dk_at dksX0_endorse_2 12 rfl rfl)
theorem dX0_endorse_61 : decode cX0_endorse 61 = .ok (.aload_n 0, 1) := dk_42 (dk_at dksX0_endorse_2 15 rfl rfl)
theorem dX0_endorse_62 : decode cX0_endorse 62 = .ok (.iload_n 1, 1) := dk_27 (dk_at dksX0_endorse_2 16 rfl rfl)
theorem dX0_endorse_63 : decode cX0_endorse 63 = .ok (.invokevirtual 229, 3) := dk_182 0 229 (dk_at dksX0_endorse_2 17 rfl rfl)
theorem dX0_endorse_66 : decode cX0_endorse 66 = .ok (.invokevirtual 237, 3) := dk_182 0 237 (dk_at dksX0_endorse_2 20 rfl rfl)
theorem dX0_endorse_69 : decode cX0_endorse 69 = .ok (.aload_n 0, 1) := dk_42 (dk_at dksX0_endorse_2 23 rfl rfl)
theorem dX0_endorse_70 : decode cX0_endorse 70 = .ok (.aload_n 3, 1) := dk_45 (dk_at dksX0_endorse_3 0 rfl rfl)
theorem dX0_endorse_71 : decode cX0_endorse 71 = .ok (.invokevirtual 213, 3) := dk_182 0 213 (dk_at dksX0_endorse_3 1 rfl rfl)
theorem dX0_endorse_74 : decode cX0_endorse 74 = .ok (.istore_n 2, 1) := dk_61 (dk_at dksX0_endorse_3 4 rfl rfl)
theorem dX0_endorse_75 : decode cX0_endorse 75 = .ok (.goto 10, 3) := dk_167 0 10 (dk_at dksX0_endorse_3 5 rfl rfl)
theorem dX0_endorse_78 : decode cX0_endorse 78 = .ok (.astore_n 3, 1) := dk_78 (dk_at dksX0_endorse_3 8 rfl rfl)
theorem dX0_endorse_79 : decode cX0_endorse 79 = .ok (.aload_n 0, 1) := dk_42 (dk_at dksX0_endorse_3 9 rfl rfl)
theorem dX0_endorse_80 : decode cX0_endorse 80 = .ok (.aload_n 3, 1) := dk_45 (dk_at dksX0_endorse_3 10 rfl rfl)
theorem dX0_endorse_81 : decode cX0_endorse 81 = .ok (.invokevirtual 217, 3) := dk_182 0 217 (dk_at dksX0_endorse_3 11 rfl rfl)
theorem dX0_endorse_84 : decode cX0_endorse 84 = .ok (.istore_n 2, 1) := dk_61 (dk_at dksX0_endorse_3 14 rfl rfl)
theorem dX0_endorse_85 : decode cX0_endorse 85 = .ok (.aload_n 0, 1) := dk_42 (dk_at dksX0_endorse_3 15 rfl rfl)
theorem dX0_endorse_86 : decode cX0_endorse 86 = .ok (.iconst 0, 1) := dk_3 (dk_at dksX0_endorse_3 16 rfl rfl)
theorem dX0_endorse_87 : decode cX0_endorse 87 = .ok (.putfield 164, 3) := dk_181 0 164 (dk_at dksX0_endorse_3 17 rfl rfl)
theorem dX0_endorse_90 : decode cX0_endorse 90 = .ok (.iload_n 2, 1) := dk_28 (dk_at dksX0_endorse_3 20 rfl rfl)
theorem dX0_endorse_91 : decode cX0_endorse 91 = .ok (.ireturn, 1) := dk_172 (dk_at dksX0_endorse_3 21 rfl rfl)
abbrev cX0_isWording : ByteArray := prog_1_method_8_code
def yX0_isWording : MethodName := ⟨RX0, "isWording", "(I)Z"⟩
def dkwX0_isWording_0 : List UInt8 := [27, 158, 0, 20, 27, 42, 180, 0, 82, 185, 0, 201, 1, 0, 163, 0, 7, 4, 167, 0, 4, 3, 172]
abbrev dktX0_isWording_0 : List UInt8 := dkwX0_isWording_0 ++ []
theorem dksX0_isWording_0 : cX0_isWording.data.toList.drop 0 = dktX0_isWording_0 := by decide +kernel
theorem dX0_isWording_0 : decode cX0_isWording 0 = .ok (.iload_n 1, 1) := dk_27 (dk_at dksX0_isWording_0 0 rfl rfl)
theorem dX0_isWording_1 : decode cX0_isWording 1 = .ok (.ifCond .le 20, 3) := dk_158 0 20 (dk_at dksX0_isWording_0 1 rfl rfl)
theorem dX0_isWording_4 : decode cX0_isWording 4 = .ok (.iload_n 1, 1) := dk_27 (dk_at dksX0_isWording_0 4 rfl rfl)
theorem dX0_isWording_5 : decode cX0_isWording 5 = .ok (.aload_n 0, 1) := dk_42 (dk_at dksX0_isWording_0 5 rfl rfl)
theorem dX0_isWording_6 : decode cX0_isWording 6 = .ok (.getfield 82, 3) := dk_180 0 82 (dk_at dksX0_isWording_0 6 rfl rfl)
theorem dX0_isWording_9 : decode cX0_isWording 9 = .ok (.invokeinterface 201 1, 5) := by decide +kernel
theorem dX0_isWording_14 : decode cX0_isWording 14 = .ok (.if_icmp .gt 7, 3) := dk_163 0 7 (dk_at dksX0_isWording_0 14 rfl rfl)
theorem dX0_isWording_17 : decode cX0_isWording 17 = .ok (.iconst 1, 1) := dk_4 (dk_at dksX0_isWording_0 17 rfl rfl)
theorem dX0_isWording_18 : decode cX0_isWording 18 = .ok (.goto 4, 3) := dk_167 0 4 (dk_at dksX0_isWording_0 18 rfl rfl)
theorem dX0_isWording_21 : decode cX0_isWording 21 = .ok (.iconst 0, 1) := dk_3 (dk_at dksX0_isWording_0 21 rfl rfl)
theorem dX0_isWording_22 : decode cX0_isWording 22 = .ok (.ireturn, 1) := dk_172 (dk_at dksX0_isWording_0 22 rfl rfl)
abbrev cX0_the : ByteArray := prog_1_method_9_code
def yX0_the : MethodName := ⟨RX0, "the", "(I)LCoverHouse$Wording;"⟩
def dkwX0_the_0 : List UInt8 := [42, 180, 0, 82, 27, 4, 100, 185, 0, 221, 2, 0, 192, 0, 179, 176]
abbrev dktX0_the_0 : List UInt8 := dkwX0_the_0 ++ []
theorem dksX0_the_0 : cX0_the.data.toList.drop 0 = dktX0_the_0 := by decide +kernel
theorem dX0_the_0 : decode cX0_the 0 = .ok (.aload_n 0, 1) := dk_42 (dk_at dksX0_the_0 0 rfl rfl)
theorem dX0_the_1 : decode cX0_the 1 = .ok (.getfield 82, 3) := dk_180 0 82 (dk_at dksX0_the_0 1 rfl rfl)
theorem dX0_the_4 : decode cX0_the 4 = .ok (.iload_n 1, 1) := dk_27 (dk_at dksX0_the_0 4 rfl rfl)
theorem dX0_the_5 : decode cX0_the 5 = .ok (.iconst 1, 1) := dk_4 (dk_at dksX0_the_0 5 rfl rfl)
theorem dX0_the_6 : decode cX0_the 6 = .ok (.isub, 1) := dk_100 (dk_at dksX0_the_0 6 rfl rfl)
theorem dX0_the_7 : decode cX0_the 7 = .ok (.invokeinterface 221 2, 5) := by decide +kernel
theorem dX0_the_12 : decode cX0_the 12 = .ok (.checkcast 179, 3) := dk_192 0 179 (dk_at dksX0_the_0 12 rfl rfl)
theorem dX0_the_15 : decode cX0_the 15 = .ok (.areturn, 1) := dk_176 (dk_at dksX0_the_0 15 rfl rfl)
abbrev cX0_wordingPart : ByteArray := prog_1_method_11_code
def yX0_wordingPart : MethodName := ⟨RX0, "wordingPart", "(II)I"⟩
def dkwX0_wordingPart_4 : List UInt8 := [180, 1, 2, 172, 45, 180, 1, 5, 28, 16, 7, 100, 46, 172, 16, 254, 172]
abbrev dktX0_wordingPart_4 : List UInt8 := dkwX0_wordingPart_4 ++ []
def dkwX0_wordingPart_3 : List UInt8 := [185, 0, 201, 1, 0, 172, 45, 180, 0, 249, 172, 45, 180, 0, 252, 172, 45, 180, 0, 255, 172, 45]
abbrev dktX0_wordingPart_3 : List UInt8 := dkwX0_wordingPart_3 ++ dktX0_wordingPart_4
def dkwX0_wordingPart_2 : List UInt8 := [45, 180, 0, 240, 185, 0, 201, 1, 0, 172, 45, 180, 0, 243, 185, 0, 201, 1, 0, 172, 45, 180, 0, 246]
abbrev dktX0_wordingPart_2 : List UInt8 := dkwX0_wordingPart_2 ++ dktX0_wordingPart_3
def dkwX0_wordingPart_1 : List UInt8 := [170, 0, 0, 0, 0, 0, 115, 0, 0, 0, 0, 0, 0, 0, 9, 0, 0, 0, 55, 0, 0, 0, 65, 0, 0, 0, 75, 0, 0, 0, 85, 0, 0, 0, 90, 0, 0, 0, 95, 0, 0, 0, 100, 0, 0, 0, 105, 0, 0, 0, 105, 0, 0, 0, 105]
abbrev dktX0_wordingPart_1 : List UInt8 := dkwX0_wordingPart_1 ++ dktX0_wordingPart_2
def dkwX0_wordingPart_0 : List UInt8 := [42, 27, 182, 0, 225, 154, 0, 5, 2, 172, 42, 27, 182, 0, 229, 78, 28]
abbrev dktX0_wordingPart_0 : List UInt8 := dkwX0_wordingPart_0 ++ dktX0_wordingPart_1
theorem dksX0_wordingPart_0 : cX0_wordingPart.data.toList.drop 0 = dktX0_wordingPart_0 := by decide +kernel
theorem dksX0_wordingPart_1 : cX0_wordingPart.data.toList.drop 17 = dktX0_wordingPart_1 := dk_seg dksX0_wordingPart_0 17 rfl rfl
theorem dksX0_wordingPart_2 : cX0_wordingPart.data.toList.drop 72 = dktX0_wordingPart_2 := dk_seg dksX0_wordingPart_1 55 rfl rfl
theorem dksX0_wordingPart_3 : cX0_wordingPart.data.toList.drop 96 = dktX0_wordingPart_3 := dk_seg dksX0_wordingPart_2 24 rfl rfl
theorem dksX0_wordingPart_4 : cX0_wordingPart.data.toList.drop 118 = dktX0_wordingPart_4 := dk_seg dksX0_wordingPart_3 22 rfl rfl
theorem dX0_wordingPart_0 : decode cX0_wordingPart 0 = .ok (.aload_n 0, 1) := dk_42 (dk_at dksX0_wordingPart_0 0 rfl rfl)
theorem dX0_wordingPart_1 : decode cX0_wordingPart 1 = .ok (.iload_n 1, 1) := dk_27 (dk_at dksX0_wordingPart_0 1 rfl rfl)
theorem dX0_wordingPart_2 : decode cX0_wordingPart 2 = .ok (.invokevirtual 225, 3) := dk_182 0 225 (dk_at dksX0_wordingPart_0 2 rfl rfl)
theorem dX0_wordingPart_5 : decode cX0_wordingPart 5 = .ok (.ifCond .ne 5, 3) := dk_154 0 5 (dk_at dksX0_wordingPart_0 5 rfl rfl)
theorem dX0_wordingPart_8 : decode cX0_wordingPart 8 = .ok (.iconst (-1), 1) := dk_2 (dk_at dksX0_wordingPart_0 8 rfl rfl)
theorem dX0_wordingPart_9 : decode cX0_wordingPart 9 = .ok (.ireturn, 1) := dk_172 (dk_at dksX0_wordingPart_0 9 rfl rfl)
theorem dX0_wordingPart_10 : decode cX0_wordingPart 10 = .ok (.aload_n 0, 1) := dk_42 (dk_at dksX0_wordingPart_0 10 rfl rfl)
theorem dX0_wordingPart_11 : decode cX0_wordingPart 11 = .ok (.iload_n 1, 1) := dk_27 (dk_at dksX0_wordingPart_0 11 rfl rfl)
theorem dX0_wordingPart_12 : decode cX0_wordingPart 12 = .ok (.invokevirtual 229, 3) := dk_182 0 229 (dk_at dksX0_wordingPart_0 12 rfl rfl)
theorem dX0_wordingPart_15 : decode cX0_wordingPart 15 = .ok (.astore_n 3, 1) := dk_78 (dk_at dksX0_wordingPart_0 15 rfl rfl)
theorem dX0_wordingPart_16 : decode cX0_wordingPart 16 = .ok (.iload_n 2, 1) := dk_28 (dk_at dksX0_wordingPart_0 16 rfl rfl)
theorem dX0_wordingPart_17 : decode cX0_wordingPart 17 = .ok (.tableswitch 115 0 9 #[55, 65, 75, 85, 90, 95, 100, 105, 105, 105], 55) := by decide +kernel
theorem dX0_wordingPart_72 : decode cX0_wordingPart 72 = .ok (.aload_n 3, 1) := dk_45 (dk_at dksX0_wordingPart_2 0 rfl rfl)
theorem dX0_wordingPart_73 : decode cX0_wordingPart 73 = .ok (.getfield 240, 3) := dk_180 0 240 (dk_at dksX0_wordingPart_2 1 rfl rfl)
theorem dX0_wordingPart_76 : decode cX0_wordingPart 76 = .ok (.invokeinterface 201 1, 5) := by decide +kernel
theorem dX0_wordingPart_81 : decode cX0_wordingPart 81 = .ok (.ireturn, 1) := dk_172 (dk_at dksX0_wordingPart_2 9 rfl rfl)
theorem dX0_wordingPart_82 : decode cX0_wordingPart 82 = .ok (.aload_n 3, 1) := dk_45 (dk_at dksX0_wordingPart_2 10 rfl rfl)
theorem dX0_wordingPart_83 : decode cX0_wordingPart 83 = .ok (.getfield 243, 3) := dk_180 0 243 (dk_at dksX0_wordingPart_2 11 rfl rfl)
theorem dX0_wordingPart_86 : decode cX0_wordingPart 86 = .ok (.invokeinterface 201 1, 5) := by decide +kernel
theorem dX0_wordingPart_91 : decode cX0_wordingPart 91 = .ok (.ireturn, 1) := dk_172 (dk_at dksX0_wordingPart_2 19 rfl rfl)
theorem dX0_wordingPart_92 : decode cX0_wordingPart 92 = .ok (.aload_n 3, 1) := dk_45 (dk_at dksX0_wordingPart_2 20 rfl rfl)
theorem dX0_wordingPart_93 : decode cX0_wordingPart 93 = .ok (.getfield 246, 3) := dk_180 0 246 (dk_at dksX0_wordingPart_2 21 rfl rfl)
theorem dX0_wordingPart_96 : decode cX0_wordingPart 96 = .ok (.invokeinterface 201 1, 5) := by decide +kernel
theorem dX0_wordingPart_101 : decode cX0_wordingPart 101 = .ok (.ireturn, 1) := dk_172 (dk_at dksX0_wordingPart_3 5 rfl rfl)
theorem dX0_wordingPart_102 : decode cX0_wordingPart 102 = .ok (.aload_n 3, 1) := dk_45 (dk_at dksX0_wordingPart_3 6 rfl rfl)
theorem dX0_wordingPart_103 : decode cX0_wordingPart 103 = .ok (.getfield 249, 3) := dk_180 0 249 (dk_at dksX0_wordingPart_3 7 rfl rfl)
theorem dX0_wordingPart_106 : decode cX0_wordingPart 106 = .ok (.ireturn, 1) := dk_172 (dk_at dksX0_wordingPart_3 10 rfl rfl)
theorem dX0_wordingPart_107 : decode cX0_wordingPart 107 = .ok (.aload_n 3, 1) := dk_45 (dk_at dksX0_wordingPart_3 11 rfl rfl)
theorem dX0_wordingPart_108 : decode cX0_wordingPart 108 = .ok (.getfield 252, 3) := dk_180 0 252 (dk_at dksX0_wordingPart_3 12 rfl rfl)
theorem dX0_wordingPart_111 : decode cX0_wordingPart 111 = .ok (.ireturn, 1) := dk_172 (dk_at dksX0_wordingPart_3 15 rfl rfl)
theorem dX0_wordingPart_112 : decode cX0_wordingPart 112 = .ok (.aload_n 3, 1) := dk_45 (dk_at dksX0_wordingPart_3 16 rfl rfl)
theorem dX0_wordingPart_113 : decode cX0_wordingPart 113 = .ok (.getfield 255, 3) := dk_180 0 255 (dk_at dksX0_wordingPart_3 17 rfl rfl)
theorem dX0_wordingPart_116 : decode cX0_wordingPart 116 = .ok (.ireturn, 1) := dk_172 (dk_at dksX0_wordingPart_3 20 rfl rfl)
theorem dX0_wordingPart_117 : decode cX0_wordingPart 117 = .ok (.aload_n 3, 1) := dk_45 (dk_at dksX0_wordingPart_3 21 rfl rfl)
theorem dX0_wordingPart_118 : decode cX0_wordingPart 118 = .ok (.getfield 258, 3) := dk_180 1 2 (dk_at dksX0_wordingPart_4 0 rfl rfl)
theorem dX0_wordingPart_121 : decode cX0_wordingPart 121 = .ok (.ireturn, 1) := dk_172 (dk_at dksX0_wordingPart_4 3 rfl rfl)
theorem dX0_wordingPart_122 : decode cX0_wordingPart 122 = .ok (.aload_n 3, 1) := dk_45 (dk_at dksX0_wordingPart_4 4 rfl rfl)
theorem dX0_wordingPart_123 : decode cX0_wordingPart 123 = .ok (.getfield 261, 3) := dk_180 1 5 (dk_at dksX0_wordingPart_4 5 rfl rfl)
theorem dX0_wordingPart_126 : decode cX0_wordingPart 126 = .ok (.iload_n 2, 1) := dk_28 (dk_at dksX0_wordingPart_4 8 rfl rfl)
theorem dX0_wordingPart_127 : decode cX0_wordingPart 127 = .ok (.bipush 7, 2) := dk_16 7 (dk_at dksX0_wordingPart_4 9 rfl rfl)
theorem dX0_wordingPart_129 : decode cX0_wordingPart 129 = .ok (.isub, 1) := dk_100 (dk_at dksX0_wordingPart_4 11 rfl rfl)
theorem dX0_wordingPart_130 : decode cX0_wordingPart 130 = .ok (.iaload, 1) := dk_46 (dk_at dksX0_wordingPart_4 12 rfl rfl)
theorem dX0_wordingPart_131 : decode cX0_wordingPart 131 = .ok (.ireturn, 1) := dk_172 (dk_at dksX0_wordingPart_4 13 rfl rfl)
theorem dX0_wordingPart_132 : decode cX0_wordingPart 132 = .ok (.bipush (-2), 2) := dk_16 254 (dk_at dksX0_wordingPart_4 14 rfl rfl)
theorem dX0_wordingPart_134 : decode cX0_wordingPart 134 = .ok (.ireturn, 1) := dk_172 (dk_at dksX0_wordingPart_4 16 rfl rfl)
abbrev cX0_factPart : ByteArray := prog_1_method_12_code
def yX0_factPart : MethodName := ⟨RX0, "factPart", "(III)I"⟩
def dkwX0_factPart_5 : List UInt8 := [42, 27, 182, 0, 229, 180, 1, 20, 28, 185, 0, 221, 2, 0, 192, 1, 21, 180, 1, 23, 172, 16, 254, 172]
abbrev dktX0_factPart_5 : List UInt8 := dkwX0_factPart_5 ++ []
def dkwX0_factPart_4 : List UInt8 := [25, 4, 180, 1, 10, 172, 25, 4, 180, 1, 11, 172, 25, 4, 180, 1, 14, 172, 25, 4, 180, 1, 17, 172]
abbrev dktX0_factPart_4 : List UInt8 := dkwX0_factPart_4 ++ dktX0_factPart_5
def dkwX0_factPart_3 : List UInt8 := [170, 0, 0, 0, 78, 0, 0, 0, 0, 0, 0, 0, 4, 0, 0, 0, 33, 0, 0, 0, 39, 0, 0, 0, 45, 0, 0, 0, 51, 0, 0, 0, 57]
abbrev dktX0_factPart_3 : List UInt8 := dkwX0_factPart_3 ++ dktX0_factPart_4
def dkwX0_factPart_2 : List UInt8 := [192, 1, 8, 58, 4, 29]
abbrev dktX0_factPart_2 : List UInt8 := dkwX0_factPart_2 ++ dktX0_factPart_3
def dkwX0_factPart_1 : List UInt8 := [185, 0, 201, 1, 0, 161, 0, 5, 2, 172, 42, 27, 182, 0, 229, 180, 0, 240, 28, 185, 0, 221, 2, 0]
abbrev dktX0_factPart_1 : List UInt8 := dkwX0_factPart_1 ++ dktX0_factPart_2
def dkwX0_factPart_0 : List UInt8 := [42, 27, 182, 0, 225, 153, 0, 24, 28, 155, 0, 20, 28, 42, 27, 182, 0, 229, 180, 0, 240]
abbrev dktX0_factPart_0 : List UInt8 := dkwX0_factPart_0 ++ dktX0_factPart_1
theorem dksX0_factPart_0 : cX0_factPart.data.toList.drop 0 = dktX0_factPart_0 := by decide +kernel
theorem dksX0_factPart_1 : cX0_factPart.data.toList.drop 21 = dktX0_factPart_1 := dk_seg dksX0_factPart_0 21 rfl rfl
theorem dksX0_factPart_2 : cX0_factPart.data.toList.drop 45 = dktX0_factPart_2 := dk_seg dksX0_factPart_1 24 rfl rfl
theorem dksX0_factPart_3 : cX0_factPart.data.toList.drop 51 = dktX0_factPart_3 := dk_seg dksX0_factPart_2 6 rfl rfl
theorem dksX0_factPart_4 : cX0_factPart.data.toList.drop 84 = dktX0_factPart_4 := dk_seg dksX0_factPart_3 33 rfl rfl
theorem dksX0_factPart_5 : cX0_factPart.data.toList.drop 108 = dktX0_factPart_5 := dk_seg dksX0_factPart_4 24 rfl rfl
theorem dX0_factPart_0 : decode cX0_factPart 0 = .ok (.aload_n 0, 1) := dk_42 (dk_at dksX0_factPart_0 0 rfl rfl)
theorem dX0_factPart_1 : decode cX0_factPart 1 = .ok (.iload_n 1, 1) := dk_27 (dk_at dksX0_factPart_0 1 rfl rfl)
theorem dX0_factPart_2 : decode cX0_factPart 2 = .ok (.invokevirtual 225, 3) := dk_182 0 225 (dk_at dksX0_factPart_0 2 rfl rfl)
theorem dX0_factPart_5 : decode cX0_factPart 5 = .ok (.ifCond .eq 24, 3) := dk_153 0 24 (dk_at dksX0_factPart_0 5 rfl rfl)
theorem dX0_factPart_8 : decode cX0_factPart 8 = .ok (.iload_n 2, 1) := dk_28 (dk_at dksX0_factPart_0 8 rfl rfl)
theorem dX0_factPart_9 : decode cX0_factPart 9 = .ok (.ifCond .lt 20, 3) := dk_155 0 20 (dk_at dksX0_factPart_0 9 rfl rfl)
theorem dX0_factPart_12 : decode cX0_factPart 12 = .ok (.iload_n 2, 1) := dk_28 (dk_at dksX0_factPart_0 12 rfl rfl)
theorem dX0_factPart_13 : decode cX0_factPart 13 = .ok (.aload_n 0, 1) := dk_42 (dk_at dksX0_factPart_0 13 rfl rfl)
theorem dX0_factPart_14 : decode cX0_factPart 14 = .ok (.iload_n 1, 1) := dk_27 (dk_at dksX0_factPart_0 14 rfl rfl)
theorem dX0_factPart_15 : decode cX0_factPart 15 = .ok (.invokevirtual 229, 3) := dk_182 0 229 (dk_at dksX0_factPart_0 15 rfl rfl)
theorem dX0_factPart_18 : decode cX0_factPart 18 = .ok (.getfield 240, 3) := dk_180 0 240 (dk_at dksX0_factPart_0 18 rfl rfl)
theorem dX0_factPart_21 : decode cX0_factPart 21 = .ok (.invokeinterface 201 1, 5) := by decide +kernel
theorem dX0_factPart_26 : decode cX0_factPart 26 = .ok (.if_icmp .lt 5, 3) := dk_161 0 5 (dk_at dksX0_factPart_1 5 rfl rfl)
theorem dX0_factPart_29 : decode cX0_factPart 29 = .ok (.iconst (-1), 1) := dk_2 (dk_at dksX0_factPart_1 8 rfl rfl)
theorem dX0_factPart_30 : decode cX0_factPart 30 = .ok (.ireturn, 1) := dk_172 (dk_at dksX0_factPart_1 9 rfl rfl)
theorem dX0_factPart_31 : decode cX0_factPart 31 = .ok (.aload_n 0, 1) := dk_42 (dk_at dksX0_factPart_1 10 rfl rfl)
theorem dX0_factPart_32 : decode cX0_factPart 32 = .ok (.iload_n 1, 1) := dk_27 (dk_at dksX0_factPart_1 11 rfl rfl)
theorem dX0_factPart_33 : decode cX0_factPart 33 = .ok (.invokevirtual 229, 3) := dk_182 0 229 (dk_at dksX0_factPart_1 12 rfl rfl)
theorem dX0_factPart_36 : decode cX0_factPart 36 = .ok (.getfield 240, 3) := dk_180 0 240 (dk_at dksX0_factPart_1 15 rfl rfl)
theorem dX0_factPart_39 : decode cX0_factPart 39 = .ok (.iload_n 2, 1) := dk_28 (dk_at dksX0_factPart_1 18 rfl rfl)
theorem dX0_factPart_40 : decode cX0_factPart 40 = .ok (.invokeinterface 221 2, 5) := by decide +kernel
theorem dX0_factPart_45 : decode cX0_factPart 45 = .ok (.checkcast 264, 3) := dk_192 1 8 (dk_at dksX0_factPart_2 0 rfl rfl)
theorem dX0_factPart_48 : decode cX0_factPart 48 = .ok (.astore 4, 2) := dk_58 4 (dk_at dksX0_factPart_2 3 rfl rfl)
theorem dX0_factPart_50 : decode cX0_factPart 50 = .ok (.iload_n 3, 1) := dk_29 (dk_at dksX0_factPart_2 5 rfl rfl)
theorem dX0_factPart_51 : decode cX0_factPart 51 = .ok (.tableswitch 78 0 4 #[33, 39, 45, 51, 57], 33) := by decide +kernel
theorem dX0_factPart_84 : decode cX0_factPart 84 = .ok (.aload 4, 2) := dk_25 4 (dk_at dksX0_factPart_4 0 rfl rfl)
theorem dX0_factPart_86 : decode cX0_factPart 86 = .ok (.getfield 266, 3) := dk_180 1 10 (dk_at dksX0_factPart_4 2 rfl rfl)
theorem dX0_factPart_89 : decode cX0_factPart 89 = .ok (.ireturn, 1) := dk_172 (dk_at dksX0_factPart_4 5 rfl rfl)
theorem dX0_factPart_90 : decode cX0_factPart 90 = .ok (.aload 4, 2) := dk_25 4 (dk_at dksX0_factPart_4 6 rfl rfl)
theorem dX0_factPart_92 : decode cX0_factPart 92 = .ok (.getfield 267, 3) := dk_180 1 11 (dk_at dksX0_factPart_4 8 rfl rfl)
theorem dX0_factPart_95 : decode cX0_factPart 95 = .ok (.ireturn, 1) := dk_172 (dk_at dksX0_factPart_4 11 rfl rfl)
theorem dX0_factPart_96 : decode cX0_factPart 96 = .ok (.aload 4, 2) := dk_25 4 (dk_at dksX0_factPart_4 12 rfl rfl)
theorem dX0_factPart_98 : decode cX0_factPart 98 = .ok (.getfield 270, 3) := dk_180 1 14 (dk_at dksX0_factPart_4 14 rfl rfl)
theorem dX0_factPart_101 : decode cX0_factPart 101 = .ok (.ireturn, 1) := dk_172 (dk_at dksX0_factPart_4 17 rfl rfl)
theorem dX0_factPart_102 : decode cX0_factPart 102 = .ok (.aload 4, 2) := dk_25 4 (dk_at dksX0_factPart_4 18 rfl rfl)
theorem dX0_factPart_104 : decode cX0_factPart 104 = .ok (.getfield 273, 3) := dk_180 1 17 (dk_at dksX0_factPart_4 20 rfl rfl)
theorem dX0_factPart_107 : decode cX0_factPart 107 = .ok (.ireturn, 1) := dk_172 (dk_at dksX0_factPart_4 23 rfl rfl)
theorem dX0_factPart_108 : decode cX0_factPart 108 = .ok (.aload_n 0, 1) := dk_42 (dk_at dksX0_factPart_5 0 rfl rfl)
theorem dX0_factPart_109 : decode cX0_factPart 109 = .ok (.iload_n 1, 1) := dk_27 (dk_at dksX0_factPart_5 1 rfl rfl)
theorem dX0_factPart_110 : decode cX0_factPart 110 = .ok (.invokevirtual 229, 3) := dk_182 0 229 (dk_at dksX0_factPart_5 2 rfl rfl)
theorem dX0_factPart_113 : decode cX0_factPart 113 = .ok (.getfield 276, 3) := dk_180 1 20 (dk_at dksX0_factPart_5 5 rfl rfl)
theorem dX0_factPart_116 : decode cX0_factPart 116 = .ok (.iload_n 2, 1) := dk_28 (dk_at dksX0_factPart_5 8 rfl rfl)
theorem dX0_factPart_117 : decode cX0_factPart 117 = .ok (.invokeinterface 221 2, 5) := by decide +kernel
theorem dX0_factPart_122 : decode cX0_factPart 122 = .ok (.checkcast 277, 3) := dk_192 1 21 (dk_at dksX0_factPart_5 14 rfl rfl)
theorem dX0_factPart_125 : decode cX0_factPart 125 = .ok (.getfield 279, 3) := dk_180 1 23 (dk_at dksX0_factPart_5 17 rfl rfl)
theorem dX0_factPart_128 : decode cX0_factPart 128 = .ok (.ireturn, 1) := dk_172 (dk_at dksX0_factPart_5 20 rfl rfl)
theorem dX0_factPart_129 : decode cX0_factPart 129 = .ok (.bipush (-2), 2) := dk_16 254 (dk_at dksX0_factPart_5 21 rfl rfl)
theorem dX0_factPart_131 : decode cX0_factPart 131 = .ok (.ireturn, 1) := dk_172 (dk_at dksX0_factPart_5 23 rfl rfl)
abbrev cX0_clause : ByteArray := prog_1_method_13_code
def yX0_clause : MethodName := ⟨RX0, "clause", "(II)I"⟩
def dkwX0_clause_2 : List UInt8 := [185, 0, 221, 2, 0, 192, 1, 25, 180, 1, 27, 172]
abbrev dktX0_clause_2 : List UInt8 := dkwX0_clause_2 ++ []
def dkwX0_clause_1 : List UInt8 := [185, 0, 201, 1, 0, 164, 0, 7, 2, 167, 0, 25, 42, 27, 182, 0, 229, 180, 0, 243, 28, 4, 100]
abbrev dktX0_clause_1 : List UInt8 := dkwX0_clause_1 ++ dktX0_clause_2
def dkwX0_clause_0 : List UInt8 := [42, 27, 182, 0, 225, 153, 0, 25, 28, 4, 161, 0, 20, 28, 42, 27, 182, 0, 229, 180, 0, 243]
abbrev dktX0_clause_0 : List UInt8 := dkwX0_clause_0 ++ dktX0_clause_1
theorem dksX0_clause_0 : cX0_clause.data.toList.drop 0 = dktX0_clause_0 := by decide +kernel
theorem dksX0_clause_1 : cX0_clause.data.toList.drop 22 = dktX0_clause_1 := dk_seg dksX0_clause_0 22 rfl rfl
theorem dksX0_clause_2 : cX0_clause.data.toList.drop 45 = dktX0_clause_2 := dk_seg dksX0_clause_1 23 rfl rfl
theorem dX0_clause_0 : decode cX0_clause 0 = .ok (.aload_n 0, 1) := dk_42 (dk_at dksX0_clause_0 0 rfl rfl)
theorem dX0_clause_1 : decode cX0_clause 1 = .ok (.iload_n 1, 1) := dk_27 (dk_at dksX0_clause_0 1 rfl rfl)
theorem dX0_clause_2 : decode cX0_clause 2 = .ok (.invokevirtual 225, 3) := dk_182 0 225 (dk_at dksX0_clause_0 2 rfl rfl)
theorem dX0_clause_5 : decode cX0_clause 5 = .ok (.ifCond .eq 25, 3) := dk_153 0 25 (dk_at dksX0_clause_0 5 rfl rfl)
theorem dX0_clause_8 : decode cX0_clause 8 = .ok (.iload_n 2, 1) := dk_28 (dk_at dksX0_clause_0 8 rfl rfl)
theorem dX0_clause_9 : decode cX0_clause 9 = .ok (.iconst 1, 1) := dk_4 (dk_at dksX0_clause_0 9 rfl rfl)
theorem dX0_clause_10 : decode cX0_clause 10 = .ok (.if_icmp .lt 20, 3) := dk_161 0 20 (dk_at dksX0_clause_0 10 rfl rfl)
theorem dX0_clause_13 : decode cX0_clause 13 = .ok (.iload_n 2, 1) := dk_28 (dk_at dksX0_clause_0 13 rfl rfl)
theorem dX0_clause_14 : decode cX0_clause 14 = .ok (.aload_n 0, 1) := dk_42 (dk_at dksX0_clause_0 14 rfl rfl)
theorem dX0_clause_15 : decode cX0_clause 15 = .ok (.iload_n 1, 1) := dk_27 (dk_at dksX0_clause_0 15 rfl rfl)
theorem dX0_clause_16 : decode cX0_clause 16 = .ok (.invokevirtual 229, 3) := dk_182 0 229 (dk_at dksX0_clause_0 16 rfl rfl)
theorem dX0_clause_19 : decode cX0_clause 19 = .ok (.getfield 243, 3) := dk_180 0 243 (dk_at dksX0_clause_0 19 rfl rfl)
theorem dX0_clause_22 : decode cX0_clause 22 = .ok (.invokeinterface 201 1, 5) := by decide +kernel
theorem dX0_clause_27 : decode cX0_clause 27 = .ok (.if_icmp .le 7, 3) := dk_164 0 7 (dk_at dksX0_clause_1 5 rfl rfl)
theorem dX0_clause_30 : decode cX0_clause 30 = .ok (.iconst (-1), 1) := dk_2 (dk_at dksX0_clause_1 8 rfl rfl)
theorem dX0_clause_31 : decode cX0_clause 31 = .ok (.goto 25, 3) := dk_167 0 25 (dk_at dksX0_clause_1 9 rfl rfl)
theorem dX0_clause_34 : decode cX0_clause 34 = .ok (.aload_n 0, 1) := dk_42 (dk_at dksX0_clause_1 12 rfl rfl)
theorem dX0_clause_35 : decode cX0_clause 35 = .ok (.iload_n 1, 1) := dk_27 (dk_at dksX0_clause_1 13 rfl rfl)
theorem dX0_clause_36 : decode cX0_clause 36 = .ok (.invokevirtual 229, 3) := dk_182 0 229 (dk_at dksX0_clause_1 14 rfl rfl)
theorem dX0_clause_39 : decode cX0_clause 39 = .ok (.getfield 243, 3) := dk_180 0 243 (dk_at dksX0_clause_1 17 rfl rfl)
theorem dX0_clause_42 : decode cX0_clause 42 = .ok (.iload_n 2, 1) := dk_28 (dk_at dksX0_clause_1 20 rfl rfl)
theorem dX0_clause_43 : decode cX0_clause 43 = .ok (.iconst 1, 1) := dk_4 (dk_at dksX0_clause_1 21 rfl rfl)
theorem dX0_clause_44 : decode cX0_clause 44 = .ok (.isub, 1) := dk_100 (dk_at dksX0_clause_1 22 rfl rfl)
theorem dX0_clause_45 : decode cX0_clause 45 = .ok (.invokeinterface 221 2, 5) := by decide +kernel
theorem dX0_clause_50 : decode cX0_clause 50 = .ok (.checkcast 281, 3) := dk_192 1 25 (dk_at dksX0_clause_2 5 rfl rfl)
theorem dX0_clause_53 : decode cX0_clause 53 = .ok (.getfield 283, 3) := dk_180 1 27 (dk_at dksX0_clause_2 8 rfl rfl)
theorem dX0_clause_56 : decode cX0_clause 56 = .ok (.ireturn, 1) := dk_172 (dk_at dksX0_clause_2 11 rfl rfl)
abbrev cX0_compare : ByteArray := prog_1_method_14_code
def yX0_compare : MethodName := ⟨RX0, "compare", "(II)I"⟩
def dkwX0_compare_3 : List UInt8 := [182, 1, 35, 167, 0, 5, 16, 252, 172]
abbrev dktX0_compare_3 : List UInt8 := dkwX0_compare_3 ++ []
def dkwX0_compare_2 : List UInt8 := [182, 0, 229, 1, 182, 1, 32, 153, 0, 23, 42, 180, 0, 124, 42, 27, 182, 0, 229, 42, 28, 182, 0, 229]
abbrev dktX0_compare_2 : List UInt8 := dkwX0_compare_2 ++ dktX0_compare_3
def dkwX0_compare_1 : List UInt8 := [28, 182, 0, 229, 182, 1, 28, 154, 0, 6, 16, 253, 172, 42, 180, 0, 124, 42, 27, 182, 0, 229, 42, 28]
abbrev dktX0_compare_1 : List UInt8 := dkwX0_compare_1 ++ dktX0_compare_2
def dkwX0_compare_0 : List UInt8 := [42, 27, 182, 0, 225, 153, 0, 11, 42, 28, 182, 0, 225, 154, 0, 5, 2, 172, 42, 27, 182, 0, 229, 42]
abbrev dktX0_compare_0 : List UInt8 := dkwX0_compare_0 ++ dktX0_compare_1
theorem dksX0_compare_0 : cX0_compare.data.toList.drop 0 = dktX0_compare_0 := by decide +kernel
theorem dksX0_compare_1 : cX0_compare.data.toList.drop 24 = dktX0_compare_1 := dk_seg dksX0_compare_0 24 rfl rfl
theorem dksX0_compare_2 : cX0_compare.data.toList.drop 48 = dktX0_compare_2 := dk_seg dksX0_compare_1 24 rfl rfl
theorem dksX0_compare_3 : cX0_compare.data.toList.drop 72 = dktX0_compare_3 := dk_seg dksX0_compare_2 24 rfl rfl
theorem dX0_compare_0 : decode cX0_compare 0 = .ok (.aload_n 0, 1) := dk_42 (dk_at dksX0_compare_0 0 rfl rfl)
theorem dX0_compare_1 : decode cX0_compare 1 = .ok (.iload_n 1, 1) := dk_27 (dk_at dksX0_compare_0 1 rfl rfl)
theorem dX0_compare_2 : decode cX0_compare 2 = .ok (.invokevirtual 225, 3) := dk_182 0 225 (dk_at dksX0_compare_0 2 rfl rfl)
theorem dX0_compare_5 : decode cX0_compare 5 = .ok (.ifCond .eq 11, 3) := dk_153 0 11 (dk_at dksX0_compare_0 5 rfl rfl)
theorem dX0_compare_8 : decode cX0_compare 8 = .ok (.aload_n 0, 1) := dk_42 (dk_at dksX0_compare_0 8 rfl rfl)
theorem dX0_compare_9 : decode cX0_compare 9 = .ok (.iload_n 2, 1) := dk_28 (dk_at dksX0_compare_0 9 rfl rfl)
theorem dX0_compare_10 : decode cX0_compare 10 = .ok (.invokevirtual 225, 3) := dk_182 0 225 (dk_at dksX0_compare_0 10 rfl rfl)
theorem dX0_compare_13 : decode cX0_compare 13 = .ok (.ifCond .ne 5, 3) := dk_154 0 5 (dk_at dksX0_compare_0 13 rfl rfl)
theorem dX0_compare_16 : decode cX0_compare 16 = .ok (.iconst (-1), 1) := dk_2 (dk_at dksX0_compare_0 16 rfl rfl)
theorem dX0_compare_17 : decode cX0_compare 17 = .ok (.ireturn, 1) := dk_172 (dk_at dksX0_compare_0 17 rfl rfl)
theorem dX0_compare_18 : decode cX0_compare 18 = .ok (.aload_n 0, 1) := dk_42 (dk_at dksX0_compare_0 18 rfl rfl)
theorem dX0_compare_19 : decode cX0_compare 19 = .ok (.iload_n 1, 1) := dk_27 (dk_at dksX0_compare_0 19 rfl rfl)
theorem dX0_compare_20 : decode cX0_compare 20 = .ok (.invokevirtual 229, 3) := dk_182 0 229 (dk_at dksX0_compare_0 20 rfl rfl)
theorem dX0_compare_23 : decode cX0_compare 23 = .ok (.aload_n 0, 1) := dk_42 (dk_at dksX0_compare_0 23 rfl rfl)
theorem dX0_compare_24 : decode cX0_compare 24 = .ok (.iload_n 2, 1) := dk_28 (dk_at dksX0_compare_1 0 rfl rfl)
theorem dX0_compare_25 : decode cX0_compare 25 = .ok (.invokevirtual 229, 3) := dk_182 0 229 (dk_at dksX0_compare_1 1 rfl rfl)
theorem dX0_compare_28 : decode cX0_compare 28 = .ok (.invokevirtual 284, 3) := dk_182 1 28 (dk_at dksX0_compare_1 4 rfl rfl)
theorem dX0_compare_31 : decode cX0_compare 31 = .ok (.ifCond .ne 6, 3) := dk_154 0 6 (dk_at dksX0_compare_1 7 rfl rfl)
theorem dX0_compare_34 : decode cX0_compare 34 = .ok (.bipush (-3), 2) := dk_16 253 (dk_at dksX0_compare_1 10 rfl rfl)
theorem dX0_compare_36 : decode cX0_compare 36 = .ok (.ireturn, 1) := dk_172 (dk_at dksX0_compare_1 12 rfl rfl)
theorem dX0_compare_37 : decode cX0_compare 37 = .ok (.aload_n 0, 1) := dk_42 (dk_at dksX0_compare_1 13 rfl rfl)
theorem dX0_compare_38 : decode cX0_compare 38 = .ok (.getfield 124, 3) := dk_180 0 124 (dk_at dksX0_compare_1 14 rfl rfl)
theorem dX0_compare_41 : decode cX0_compare 41 = .ok (.aload_n 0, 1) := dk_42 (dk_at dksX0_compare_1 17 rfl rfl)
theorem dX0_compare_42 : decode cX0_compare 42 = .ok (.iload_n 1, 1) := dk_27 (dk_at dksX0_compare_1 18 rfl rfl)
theorem dX0_compare_43 : decode cX0_compare 43 = .ok (.invokevirtual 229, 3) := dk_182 0 229 (dk_at dksX0_compare_1 19 rfl rfl)
theorem dX0_compare_46 : decode cX0_compare 46 = .ok (.aload_n 0, 1) := dk_42 (dk_at dksX0_compare_1 22 rfl rfl)
theorem dX0_compare_47 : decode cX0_compare 47 = .ok (.iload_n 2, 1) := dk_28 (dk_at dksX0_compare_1 23 rfl rfl)
theorem dX0_compare_48 : decode cX0_compare 48 = .ok (.invokevirtual 229, 3) := dk_182 0 229 (dk_at dksX0_compare_2 0 rfl rfl)
theorem dX0_compare_51 : decode cX0_compare 51 = .ok (.aconst_null, 1) := dk_1 (dk_at dksX0_compare_2 3 rfl rfl)
theorem dX0_compare_52 : decode cX0_compare 52 = .ok (.invokevirtual 288, 3) := dk_182 1 32 (dk_at dksX0_compare_2 4 rfl rfl)
theorem dX0_compare_55 : decode cX0_compare 55 = .ok (.ifCond .eq 23, 3) := dk_153 0 23 (dk_at dksX0_compare_2 7 rfl rfl)
theorem dX0_compare_58 : decode cX0_compare 58 = .ok (.aload_n 0, 1) := dk_42 (dk_at dksX0_compare_2 10 rfl rfl)
theorem dX0_compare_59 : decode cX0_compare 59 = .ok (.getfield 124, 3) := dk_180 0 124 (dk_at dksX0_compare_2 11 rfl rfl)
theorem dX0_compare_62 : decode cX0_compare 62 = .ok (.aload_n 0, 1) := dk_42 (dk_at dksX0_compare_2 14 rfl rfl)
theorem dX0_compare_63 : decode cX0_compare 63 = .ok (.iload_n 1, 1) := dk_27 (dk_at dksX0_compare_2 15 rfl rfl)
theorem dX0_compare_64 : decode cX0_compare 64 = .ok (.invokevirtual 229, 3) := dk_182 0 229 (dk_at dksX0_compare_2 16 rfl rfl)
theorem dX0_compare_67 : decode cX0_compare 67 = .ok (.aload_n 0, 1) := dk_42 (dk_at dksX0_compare_2 19 rfl rfl)
theorem dX0_compare_68 : decode cX0_compare 68 = .ok (.iload_n 2, 1) := dk_28 (dk_at dksX0_compare_2 20 rfl rfl)
theorem dX0_compare_69 : decode cX0_compare 69 = .ok (.invokevirtual 229, 3) := dk_182 0 229 (dk_at dksX0_compare_2 21 rfl rfl)
theorem dX0_compare_72 : decode cX0_compare 72 = .ok (.invokevirtual 291, 3) := dk_182 1 35 (dk_at dksX0_compare_3 0 rfl rfl)
theorem dX0_compare_75 : decode cX0_compare 75 = .ok (.goto 5, 3) := dk_167 0 5 (dk_at dksX0_compare_3 3 rfl rfl)
theorem dX0_compare_78 : decode cX0_compare 78 = .ok (.bipush (-4), 2) := dk_16 252 (dk_at dksX0_compare_3 6 rfl rfl)
theorem dX0_compare_80 : decode cX0_compare 80 = .ok (.ireturn, 1) := dk_172 (dk_at dksX0_compare_3 8 rfl rfl)
abbrev cX0_apart : ByteArray := prog_1_method_15_code
def yX0_apart : MethodName := ⟨RX0, "apart", "(II)I"⟩
def dkwX0_apart_2 : List UInt8 := [180, 0, 124, 180, 1, 46, 16, 8, 27, 104, 28, 96, 46, 172]
abbrev dktX0_apart_2 : List UInt8 := dkwX0_apart_2 ++ []
def dkwX0_apart_1 : List UInt8 := [16, 253, 172, 28, 155, 0, 14, 28, 42, 180, 0, 124, 180, 1, 43, 161, 0, 7, 2, 167, 0, 17, 42]
abbrev dktX0_apart_1 : List UInt8 := dkwX0_apart_1 ++ dktX0_apart_2
def dkwX0_apart_0 : List UInt8 := [27, 155, 0, 8, 27, 4, 164, 0, 5, 2, 172, 42, 180, 0, 124, 180, 1, 39, 27, 51, 154, 0, 6]
abbrev dktX0_apart_0 : List UInt8 := dkwX0_apart_0 ++ dktX0_apart_1
theorem dksX0_apart_0 : cX0_apart.data.toList.drop 0 = dktX0_apart_0 := by decide +kernel
theorem dksX0_apart_1 : cX0_apart.data.toList.drop 23 = dktX0_apart_1 := dk_seg dksX0_apart_0 23 rfl rfl
theorem dksX0_apart_2 : cX0_apart.data.toList.drop 46 = dktX0_apart_2 := dk_seg dksX0_apart_1 23 rfl rfl
theorem dX0_apart_0 : decode cX0_apart 0 = .ok (.iload_n 1, 1) := dk_27 (dk_at dksX0_apart_0 0 rfl rfl)
theorem dX0_apart_1 : decode cX0_apart 1 = .ok (.ifCond .lt 8, 3) := dk_155 0 8 (dk_at dksX0_apart_0 1 rfl rfl)
theorem dX0_apart_4 : decode cX0_apart 4 = .ok (.iload_n 1, 1) := dk_27 (dk_at dksX0_apart_0 4 rfl rfl)
theorem dX0_apart_5 : decode cX0_apart 5 = .ok (.iconst 1, 1) := dk_4 (dk_at dksX0_apart_0 5 rfl rfl)
theorem dX0_apart_6 : decode cX0_apart 6 = .ok (.if_icmp .le 5, 3) := dk_164 0 5 (dk_at dksX0_apart_0 6 rfl rfl)
theorem dX0_apart_9 : decode cX0_apart 9 = .ok (.iconst (-1), 1) := dk_2 (dk_at dksX0_apart_0 9 rfl rfl)
theorem dX0_apart_10 : decode cX0_apart 10 = .ok (.ireturn, 1) := dk_172 (dk_at dksX0_apart_0 10 rfl rfl)
theorem dX0_apart_11 : decode cX0_apart 11 = .ok (.aload_n 0, 1) := dk_42 (dk_at dksX0_apart_0 11 rfl rfl)
theorem dX0_apart_12 : decode cX0_apart 12 = .ok (.getfield 124, 3) := dk_180 0 124 (dk_at dksX0_apart_0 12 rfl rfl)
theorem dX0_apart_15 : decode cX0_apart 15 = .ok (.getfield 295, 3) := dk_180 1 39 (dk_at dksX0_apart_0 15 rfl rfl)
theorem dX0_apart_18 : decode cX0_apart 18 = .ok (.iload_n 1, 1) := dk_27 (dk_at dksX0_apart_0 18 rfl rfl)
theorem dX0_apart_19 : decode cX0_apart 19 = .ok (.baload, 1) := dk_51 (dk_at dksX0_apart_0 19 rfl rfl)
theorem dX0_apart_20 : decode cX0_apart 20 = .ok (.ifCond .ne 6, 3) := dk_154 0 6 (dk_at dksX0_apart_0 20 rfl rfl)
theorem dX0_apart_23 : decode cX0_apart 23 = .ok (.bipush (-3), 2) := dk_16 253 (dk_at dksX0_apart_1 0 rfl rfl)
theorem dX0_apart_25 : decode cX0_apart 25 = .ok (.ireturn, 1) := dk_172 (dk_at dksX0_apart_1 2 rfl rfl)
theorem dX0_apart_26 : decode cX0_apart 26 = .ok (.iload_n 2, 1) := dk_28 (dk_at dksX0_apart_1 3 rfl rfl)
theorem dX0_apart_27 : decode cX0_apart 27 = .ok (.ifCond .lt 14, 3) := dk_155 0 14 (dk_at dksX0_apart_1 4 rfl rfl)
theorem dX0_apart_30 : decode cX0_apart 30 = .ok (.iload_n 2, 1) := dk_28 (dk_at dksX0_apart_1 7 rfl rfl)
theorem dX0_apart_31 : decode cX0_apart 31 = .ok (.aload_n 0, 1) := dk_42 (dk_at dksX0_apart_1 8 rfl rfl)
theorem dX0_apart_32 : decode cX0_apart 32 = .ok (.getfield 124, 3) := dk_180 0 124 (dk_at dksX0_apart_1 9 rfl rfl)
theorem dX0_apart_35 : decode cX0_apart 35 = .ok (.getfield 299, 3) := dk_180 1 43 (dk_at dksX0_apart_1 12 rfl rfl)
theorem dX0_apart_38 : decode cX0_apart 38 = .ok (.if_icmp .lt 7, 3) := dk_161 0 7 (dk_at dksX0_apart_1 15 rfl rfl)
theorem dX0_apart_41 : decode cX0_apart 41 = .ok (.iconst (-1), 1) := dk_2 (dk_at dksX0_apart_1 18 rfl rfl)
theorem dX0_apart_42 : decode cX0_apart 42 = .ok (.goto 17, 3) := dk_167 0 17 (dk_at dksX0_apart_1 19 rfl rfl)
theorem dX0_apart_45 : decode cX0_apart 45 = .ok (.aload_n 0, 1) := dk_42 (dk_at dksX0_apart_1 22 rfl rfl)
theorem dX0_apart_46 : decode cX0_apart 46 = .ok (.getfield 124, 3) := dk_180 0 124 (dk_at dksX0_apart_2 0 rfl rfl)
theorem dX0_apart_49 : decode cX0_apart 49 = .ok (.getfield 302, 3) := dk_180 1 46 (dk_at dksX0_apart_2 3 rfl rfl)
theorem dX0_apart_52 : decode cX0_apart 52 = .ok (.bipush 8, 2) := dk_16 8 (dk_at dksX0_apart_2 6 rfl rfl)
theorem dX0_apart_54 : decode cX0_apart 54 = .ok (.iload_n 1, 1) := dk_27 (dk_at dksX0_apart_2 8 rfl rfl)
theorem dX0_apart_55 : decode cX0_apart 55 = .ok (.imul, 1) := dk_104 (dk_at dksX0_apart_2 9 rfl rfl)
theorem dX0_apart_56 : decode cX0_apart 56 = .ok (.iload_n 2, 1) := dk_28 (dk_at dksX0_apart_2 10 rfl rfl)
theorem dX0_apart_57 : decode cX0_apart 57 = .ok (.iadd, 1) := dk_96 (dk_at dksX0_apart_2 11 rfl rfl)
theorem dX0_apart_58 : decode cX0_apart 58 = .ok (.iaload, 1) := dk_46 (dk_at dksX0_apart_2 12 rfl rfl)
theorem dX0_apart_59 : decode cX0_apart 59 = .ok (.ireturn, 1) := dk_172 (dk_at dksX0_apart_2 13 rfl rfl)
abbrev cX0_judge : ByteArray := prog_1_method_16_code
def yX0_judge : MethodName := ⟨RX0, "judge", "(I)I"⟩
def dkwX0_judge_4 : List UInt8 := [28, 172]
abbrev dktX0_judge_4 : List UInt8 := dkwX0_judge_4 ++ []
def dkwX0_judge_3 : List UInt8 := [182, 1, 55, 167, 0, 5, 16, 252, 61, 167, 0, 10, 78, 42, 45, 182, 0, 217, 61, 42, 3, 181, 0, 164]
abbrev dktX0_judge_3 : List UInt8 := dkwX0_judge_3 ++ dktX0_judge_4
def dkwX0_judge_2 : List UInt8 := [180, 1, 52, 182, 1, 32, 153, 0, 23, 42, 180, 0, 124, 42, 27, 182, 0, 229, 29, 42, 180, 1, 52]
abbrev dktX0_judge_2 : List UInt8 := dkwX0_judge_2 ++ dktX0_judge_3
def dkwX0_judge_1 : List UInt8 := [182, 0, 229, 17, 1, 44, 183, 0, 207, 182, 1, 49, 62, 42, 180, 0, 124, 42, 27, 182, 0, 229, 1, 42]
abbrev dktX0_judge_1 : List UInt8 := dkwX0_judge_1 ++ dktX0_judge_2
def dkwX0_judge_0 : List UInt8 := [42, 27, 182, 0, 225, 154, 0, 5, 2, 172, 42, 2, 181, 0, 75, 187, 0, 205, 89, 42, 42, 27]
abbrev dktX0_judge_0 : List UInt8 := dkwX0_judge_0 ++ dktX0_judge_1
theorem dksX0_judge_0 : cX0_judge.data.toList.drop 0 = dktX0_judge_0 := by decide +kernel
theorem dksX0_judge_1 : cX0_judge.data.toList.drop 22 = dktX0_judge_1 := dk_seg dksX0_judge_0 22 rfl rfl
theorem dksX0_judge_2 : cX0_judge.data.toList.drop 46 = dktX0_judge_2 := dk_seg dksX0_judge_1 24 rfl rfl
theorem dksX0_judge_3 : cX0_judge.data.toList.drop 69 = dktX0_judge_3 := dk_seg dksX0_judge_2 23 rfl rfl
theorem dksX0_judge_4 : cX0_judge.data.toList.drop 93 = dktX0_judge_4 := dk_seg dksX0_judge_3 24 rfl rfl
theorem dX0_judge_0 : decode cX0_judge 0 = .ok (.aload_n 0, 1) := dk_42 (dk_at dksX0_judge_0 0 rfl rfl)
theorem dX0_judge_1 : decode cX0_judge 1 = .ok (.iload_n 1, 1) := dk_27 (dk_at dksX0_judge_0 1 rfl rfl)
theorem dX0_judge_2 : decode cX0_judge 2 = .ok (.invokevirtual 225, 3) := dk_182 0 225 (dk_at dksX0_judge_0 2 rfl rfl)
theorem dX0_judge_5 : decode cX0_judge 5 = .ok (.ifCond .ne 5, 3) := dk_154 0 5 (dk_at dksX0_judge_0 5 rfl rfl)
theorem dX0_judge_8 : decode cX0_judge 8 = .ok (.iconst (-1), 1) := dk_2 (dk_at dksX0_judge_0 8 rfl rfl)
theorem dX0_judge_9 : decode cX0_judge 9 = .ok (.ireturn, 1) := dk_172 (dk_at dksX0_judge_0 9 rfl rfl)
theorem dX0_judge_10 : decode cX0_judge 10 = .ok (.aload_n 0, 1) := dk_42 (dk_at dksX0_judge_0 10 rfl rfl)
theorem dX0_judge_11 : decode cX0_judge 11 = .ok (.iconst (-1), 1) := dk_2 (dk_at dksX0_judge_0 11 rfl rfl)
theorem dX0_judge_12 : decode cX0_judge 12 = .ok (.putfield 75, 3) := dk_181 0 75 (dk_at dksX0_judge_0 12 rfl rfl)
theorem dX0_judge_15 : decode cX0_judge 15 = .ok (.new 205, 3) := dk_187 0 205 (dk_at dksX0_judge_0 15 rfl rfl)
theorem dX0_judge_18 : decode cX0_judge 18 = .ok (.dup, 1) := dk_89 (dk_at dksX0_judge_0 18 rfl rfl)
theorem dX0_judge_19 : decode cX0_judge 19 = .ok (.aload_n 0, 1) := dk_42 (dk_at dksX0_judge_0 19 rfl rfl)
theorem dX0_judge_20 : decode cX0_judge 20 = .ok (.aload_n 0, 1) := dk_42 (dk_at dksX0_judge_0 20 rfl rfl)
theorem dX0_judge_21 : decode cX0_judge 21 = .ok (.iload_n 1, 1) := dk_27 (dk_at dksX0_judge_0 21 rfl rfl)
theorem dX0_judge_22 : decode cX0_judge 22 = .ok (.invokevirtual 229, 3) := dk_182 0 229 (dk_at dksX0_judge_1 0 rfl rfl)
theorem dX0_judge_25 : decode cX0_judge 25 = .ok (.sipush 300, 3) := dk_17 1 44 (dk_at dksX0_judge_1 3 rfl rfl)
theorem dX0_judge_28 : decode cX0_judge 28 = .ok (.invokespecial 207, 3) := dk_183 0 207 (dk_at dksX0_judge_1 6 rfl rfl)
theorem dX0_judge_31 : decode cX0_judge 31 = .ok (.invokevirtual 305, 3) := dk_182 1 49 (dk_at dksX0_judge_1 9 rfl rfl)
theorem dX0_judge_34 : decode cX0_judge 34 = .ok (.istore_n 3, 1) := dk_62 (dk_at dksX0_judge_1 12 rfl rfl)
theorem dX0_judge_35 : decode cX0_judge 35 = .ok (.aload_n 0, 1) := dk_42 (dk_at dksX0_judge_1 13 rfl rfl)
theorem dX0_judge_36 : decode cX0_judge 36 = .ok (.getfield 124, 3) := dk_180 0 124 (dk_at dksX0_judge_1 14 rfl rfl)
theorem dX0_judge_39 : decode cX0_judge 39 = .ok (.aload_n 0, 1) := dk_42 (dk_at dksX0_judge_1 17 rfl rfl)
theorem dX0_judge_40 : decode cX0_judge 40 = .ok (.iload_n 1, 1) := dk_27 (dk_at dksX0_judge_1 18 rfl rfl)
theorem dX0_judge_41 : decode cX0_judge 41 = .ok (.invokevirtual 229, 3) := dk_182 0 229 (dk_at dksX0_judge_1 19 rfl rfl)
theorem dX0_judge_44 : decode cX0_judge 44 = .ok (.aconst_null, 1) := dk_1 (dk_at dksX0_judge_1 22 rfl rfl)
theorem dX0_judge_45 : decode cX0_judge 45 = .ok (.aload_n 0, 1) := dk_42 (dk_at dksX0_judge_1 23 rfl rfl)
theorem dX0_judge_46 : decode cX0_judge 46 = .ok (.getfield 308, 3) := dk_180 1 52 (dk_at dksX0_judge_2 0 rfl rfl)
theorem dX0_judge_49 : decode cX0_judge 49 = .ok (.invokevirtual 288, 3) := dk_182 1 32 (dk_at dksX0_judge_2 3 rfl rfl)
theorem dX0_judge_52 : decode cX0_judge 52 = .ok (.ifCond .eq 23, 3) := dk_153 0 23 (dk_at dksX0_judge_2 6 rfl rfl)
theorem dX0_judge_55 : decode cX0_judge 55 = .ok (.aload_n 0, 1) := dk_42 (dk_at dksX0_judge_2 9 rfl rfl)
theorem dX0_judge_56 : decode cX0_judge 56 = .ok (.getfield 124, 3) := dk_180 0 124 (dk_at dksX0_judge_2 10 rfl rfl)
theorem dX0_judge_59 : decode cX0_judge 59 = .ok (.aload_n 0, 1) := dk_42 (dk_at dksX0_judge_2 13 rfl rfl)
theorem dX0_judge_60 : decode cX0_judge 60 = .ok (.iload_n 1, 1) := dk_27 (dk_at dksX0_judge_2 14 rfl rfl)
theorem dX0_judge_61 : decode cX0_judge 61 = .ok (.invokevirtual 229, 3) := dk_182 0 229 (dk_at dksX0_judge_2 15 rfl rfl)
theorem dX0_judge_64 : decode cX0_judge 64 = .ok (.iload_n 3, 1) := dk_29 (dk_at dksX0_judge_2 18 rfl rfl)
theorem dX0_judge_65 : decode cX0_judge 65 = .ok (.aload_n 0, 1) := dk_42 (dk_at dksX0_judge_2 19 rfl rfl)
theorem dX0_judge_66 : decode cX0_judge 66 = .ok (.getfield 308, 3) := dk_180 1 52 (dk_at dksX0_judge_2 20 rfl rfl)
theorem dX0_judge_69 : decode cX0_judge 69 = .ok (.invokevirtual 311, 3) := dk_182 1 55 (dk_at dksX0_judge_3 0 rfl rfl)
theorem dX0_judge_72 : decode cX0_judge 72 = .ok (.goto 5, 3) := dk_167 0 5 (dk_at dksX0_judge_3 3 rfl rfl)
theorem dX0_judge_75 : decode cX0_judge 75 = .ok (.bipush (-4), 2) := dk_16 252 (dk_at dksX0_judge_3 6 rfl rfl)
theorem dX0_judge_77 : decode cX0_judge 77 = .ok (.istore_n 2, 1) := dk_61 (dk_at dksX0_judge_3 8 rfl rfl)
theorem dX0_judge_78 : decode cX0_judge 78 = .ok (.goto 10, 3) := dk_167 0 10 (dk_at dksX0_judge_3 9 rfl rfl)
theorem dX0_judge_81 : decode cX0_judge 81 = .ok (.astore_n 3, 1) := dk_78 (dk_at dksX0_judge_3 12 rfl rfl)
theorem dX0_judge_82 : decode cX0_judge 82 = .ok (.aload_n 0, 1) := dk_42 (dk_at dksX0_judge_3 13 rfl rfl)
theorem dX0_judge_83 : decode cX0_judge 83 = .ok (.aload_n 3, 1) := dk_45 (dk_at dksX0_judge_3 14 rfl rfl)
theorem dX0_judge_84 : decode cX0_judge 84 = .ok (.invokevirtual 217, 3) := dk_182 0 217 (dk_at dksX0_judge_3 15 rfl rfl)
theorem dX0_judge_87 : decode cX0_judge 87 = .ok (.istore_n 2, 1) := dk_61 (dk_at dksX0_judge_3 18 rfl rfl)
theorem dX0_judge_88 : decode cX0_judge 88 = .ok (.aload_n 0, 1) := dk_42 (dk_at dksX0_judge_3 19 rfl rfl)
theorem dX0_judge_89 : decode cX0_judge 89 = .ok (.iconst 0, 1) := dk_3 (dk_at dksX0_judge_3 20 rfl rfl)
theorem dX0_judge_90 : decode cX0_judge 90 = .ok (.putfield 164, 3) := dk_181 0 164 (dk_at dksX0_judge_3 21 rfl rfl)
theorem dX0_judge_93 : decode cX0_judge 93 = .ok (.iload_n 2, 1) := dk_28 (dk_at dksX0_judge_4 0 rfl rfl)
theorem dX0_judge_94 : decode cX0_judge 94 = .ok (.ireturn, 1) := dk_172 (dk_at dksX0_judge_4 1 rfl rfl)
abbrev cX0_shown : ByteArray := prog_1_method_17_code
def yX0_shown : MethodName := ⟨RX0, "shown", "(I)I"⟩
def dkwX0_shown_1 : List UInt8 := [180, 1, 63, 161, 0, 7, 2, 167, 0, 12, 42, 180, 0, 124, 180, 1, 66, 27, 46, 172]
abbrev dktX0_shown_1 : List UInt8 := dkwX0_shown_1 ++ []
def dkwX0_shown_0 : List UInt8 := [42, 180, 0, 124, 180, 1, 59, 154, 0, 6, 16, 253, 172, 27, 155, 0, 14, 27, 42, 180, 0, 124]
abbrev dktX0_shown_0 : List UInt8 := dkwX0_shown_0 ++ dktX0_shown_1
theorem dksX0_shown_0 : cX0_shown.data.toList.drop 0 = dktX0_shown_0 := by decide +kernel
theorem dksX0_shown_1 : cX0_shown.data.toList.drop 22 = dktX0_shown_1 := dk_seg dksX0_shown_0 22 rfl rfl
theorem dX0_shown_0 : decode cX0_shown 0 = .ok (.aload_n 0, 1) := dk_42 (dk_at dksX0_shown_0 0 rfl rfl)
theorem dX0_shown_1 : decode cX0_shown 1 = .ok (.getfield 124, 3) := dk_180 0 124 (dk_at dksX0_shown_0 1 rfl rfl)
theorem dX0_shown_4 : decode cX0_shown 4 = .ok (.getfield 315, 3) := dk_180 1 59 (dk_at dksX0_shown_0 4 rfl rfl)
theorem dX0_shown_7 : decode cX0_shown 7 = .ok (.ifCond .ne 6, 3) := dk_154 0 6 (dk_at dksX0_shown_0 7 rfl rfl)
theorem dX0_shown_10 : decode cX0_shown 10 = .ok (.bipush (-3), 2) := dk_16 253 (dk_at dksX0_shown_0 10 rfl rfl)
theorem dX0_shown_12 : decode cX0_shown 12 = .ok (.ireturn, 1) := dk_172 (dk_at dksX0_shown_0 12 rfl rfl)
theorem dX0_shown_13 : decode cX0_shown 13 = .ok (.iload_n 1, 1) := dk_27 (dk_at dksX0_shown_0 13 rfl rfl)
theorem dX0_shown_14 : decode cX0_shown 14 = .ok (.ifCond .lt 14, 3) := dk_155 0 14 (dk_at dksX0_shown_0 14 rfl rfl)
theorem dX0_shown_17 : decode cX0_shown 17 = .ok (.iload_n 1, 1) := dk_27 (dk_at dksX0_shown_0 17 rfl rfl)
theorem dX0_shown_18 : decode cX0_shown 18 = .ok (.aload_n 0, 1) := dk_42 (dk_at dksX0_shown_0 18 rfl rfl)
theorem dX0_shown_19 : decode cX0_shown 19 = .ok (.getfield 124, 3) := dk_180 0 124 (dk_at dksX0_shown_0 19 rfl rfl)
theorem dX0_shown_22 : decode cX0_shown 22 = .ok (.getfield 319, 3) := dk_180 1 63 (dk_at dksX0_shown_1 0 rfl rfl)
theorem dX0_shown_25 : decode cX0_shown 25 = .ok (.if_icmp .lt 7, 3) := dk_161 0 7 (dk_at dksX0_shown_1 3 rfl rfl)
theorem dX0_shown_28 : decode cX0_shown 28 = .ok (.iconst (-1), 1) := dk_2 (dk_at dksX0_shown_1 6 rfl rfl)
theorem dX0_shown_29 : decode cX0_shown 29 = .ok (.goto 12, 3) := dk_167 0 12 (dk_at dksX0_shown_1 7 rfl rfl)
theorem dX0_shown_32 : decode cX0_shown 32 = .ok (.aload_n 0, 1) := dk_42 (dk_at dksX0_shown_1 10 rfl rfl)
theorem dX0_shown_33 : decode cX0_shown 33 = .ok (.getfield 124, 3) := dk_180 0 124 (dk_at dksX0_shown_1 11 rfl rfl)
theorem dX0_shown_36 : decode cX0_shown 36 = .ok (.getfield 322, 3) := dk_180 1 66 (dk_at dksX0_shown_1 14 rfl rfl)
theorem dX0_shown_39 : decode cX0_shown 39 = .ok (.iload_n 1, 1) := dk_27 (dk_at dksX0_shown_1 17 rfl rfl)
theorem dX0_shown_40 : decode cX0_shown 40 = .ok (.iaload, 1) := dk_46 (dk_at dksX0_shown_1 18 rfl rfl)
theorem dX0_shown_41 : decode cX0_shown 41 = .ok (.ireturn, 1) := dk_172 (dk_at dksX0_shown_1 19 rfl rfl)
abbrev cX0_event : ByteArray := prog_1_method_20_code
def yX0_event : MethodName := ⟨RX0, "event", "(I)I"⟩
def dkwX0_event_2 : List UInt8 := [87, 42, 180, 0, 86, 185, 0, 201, 1, 0, 172]
abbrev dktX0_event_2 : List UInt8 := dkwX0_event_2 ++ []
def dkwX0_event_1 : List UInt8 := [16, 252, 172, 42, 180, 0, 86, 187, 1, 69, 89, 42, 27, 182, 0, 229, 183, 1, 71, 185, 0, 195, 2, 0]
abbrev dktX0_event_1 : List UInt8 := dkwX0_event_1 ++ dktX0_event_2
def dkwX0_event_0 : List UInt8 := [42, 27, 182, 0, 225, 154, 0, 5, 2, 172, 42, 180, 0, 86, 185, 0, 201, 1, 0, 16, 32, 160, 0, 6]
abbrev dktX0_event_0 : List UInt8 := dkwX0_event_0 ++ dktX0_event_1
theorem dksX0_event_0 : cX0_event.data.toList.drop 0 = dktX0_event_0 := by decide +kernel
theorem dksX0_event_1 : cX0_event.data.toList.drop 24 = dktX0_event_1 := dk_seg dksX0_event_0 24 rfl rfl
theorem dksX0_event_2 : cX0_event.data.toList.drop 48 = dktX0_event_2 := dk_seg dksX0_event_1 24 rfl rfl
theorem dX0_event_0 : decode cX0_event 0 = .ok (.aload_n 0, 1) := dk_42 (dk_at dksX0_event_0 0 rfl rfl)
theorem dX0_event_1 : decode cX0_event 1 = .ok (.iload_n 1, 1) := dk_27 (dk_at dksX0_event_0 1 rfl rfl)
theorem dX0_event_2 : decode cX0_event 2 = .ok (.invokevirtual 225, 3) := dk_182 0 225 (dk_at dksX0_event_0 2 rfl rfl)
theorem dX0_event_5 : decode cX0_event 5 = .ok (.ifCond .ne 5, 3) := dk_154 0 5 (dk_at dksX0_event_0 5 rfl rfl)
theorem dX0_event_8 : decode cX0_event 8 = .ok (.iconst (-1), 1) := dk_2 (dk_at dksX0_event_0 8 rfl rfl)
theorem dX0_event_9 : decode cX0_event 9 = .ok (.ireturn, 1) := dk_172 (dk_at dksX0_event_0 9 rfl rfl)
theorem dX0_event_10 : decode cX0_event 10 = .ok (.aload_n 0, 1) := dk_42 (dk_at dksX0_event_0 10 rfl rfl)
theorem dX0_event_11 : decode cX0_event 11 = .ok (.getfield 86, 3) := dk_180 0 86 (dk_at dksX0_event_0 11 rfl rfl)
theorem dX0_event_14 : decode cX0_event 14 = .ok (.invokeinterface 201 1, 5) := by decide +kernel
theorem dX0_event_19 : decode cX0_event 19 = .ok (.bipush 32, 2) := dk_16 32 (dk_at dksX0_event_0 19 rfl rfl)
theorem dX0_event_21 : decode cX0_event 21 = .ok (.if_icmp .ne 6, 3) := dk_160 0 6 (dk_at dksX0_event_0 21 rfl rfl)
theorem dX0_event_24 : decode cX0_event 24 = .ok (.bipush (-4), 2) := dk_16 252 (dk_at dksX0_event_1 0 rfl rfl)
theorem dX0_event_26 : decode cX0_event 26 = .ok (.ireturn, 1) := dk_172 (dk_at dksX0_event_1 2 rfl rfl)
theorem dX0_event_27 : decode cX0_event 27 = .ok (.aload_n 0, 1) := dk_42 (dk_at dksX0_event_1 3 rfl rfl)
theorem dX0_event_28 : decode cX0_event 28 = .ok (.getfield 86, 3) := dk_180 0 86 (dk_at dksX0_event_1 4 rfl rfl)
theorem dX0_event_31 : decode cX0_event 31 = .ok (.new 325, 3) := dk_187 1 69 (dk_at dksX0_event_1 7 rfl rfl)
theorem dX0_event_34 : decode cX0_event 34 = .ok (.dup, 1) := dk_89 (dk_at dksX0_event_1 10 rfl rfl)
theorem dX0_event_35 : decode cX0_event 35 = .ok (.aload_n 0, 1) := dk_42 (dk_at dksX0_event_1 11 rfl rfl)
theorem dX0_event_36 : decode cX0_event 36 = .ok (.iload_n 1, 1) := dk_27 (dk_at dksX0_event_1 12 rfl rfl)
theorem dX0_event_37 : decode cX0_event 37 = .ok (.invokevirtual 229, 3) := dk_182 0 229 (dk_at dksX0_event_1 13 rfl rfl)
theorem dX0_event_40 : decode cX0_event 40 = .ok (.invokespecial 327, 3) := dk_183 1 71 (dk_at dksX0_event_1 16 rfl rfl)
theorem dX0_event_43 : decode cX0_event 43 = .ok (.invokeinterface 195 2, 5) := by decide +kernel
theorem dX0_event_48 : decode cX0_event 48 = .ok (.pop, 1) := dk_87 (dk_at dksX0_event_2 0 rfl rfl)
theorem dX0_event_49 : decode cX0_event 49 = .ok (.aload_n 0, 1) := dk_42 (dk_at dksX0_event_2 1 rfl rfl)
theorem dX0_event_50 : decode cX0_event 50 = .ok (.getfield 86, 3) := dk_180 0 86 (dk_at dksX0_event_2 2 rfl rfl)
theorem dX0_event_53 : decode cX0_event 53 = .ok (.invokeinterface 201 1, 5) := by decide +kernel
theorem dX0_event_58 : decode cX0_event 58 = .ok (.ireturn, 1) := dk_172 (dk_at dksX0_event_2 10 rfl rfl)
abbrev cX0_tell : ByteArray := prog_1_method_22_code
def yX0_tell : MethodName := ⟨RX0, "tell", "(IIII)I"⟩
def dkwX0_tell_5 : List UInt8 := [172]
abbrev dktX0_tell_5 : List UInt8 := dkwX0_tell_5 ++ []
def dkwX0_tell_4 : List UInt8 := [180, 1, 92, 16, 6, 160, 0, 6, 16, 252, 172, 25, 5, 29, 21, 4, 182, 1, 93, 25, 5, 180, 1, 92]
abbrev dktX0_tell_4 : List UInt8 := dkwX0_tell_4 ++ dktX0_tell_5
def dkwX0_tell_3 : List UInt8 := [185, 0, 221, 2, 0, 192, 1, 69, 180, 1, 76, 28, 185, 0, 221, 2, 0, 192, 1, 90, 58, 5, 25, 5]
abbrev dktX0_tell_3 : List UInt8 := dkwX0_tell_3 ++ dktX0_tell_4
def dkwX0_tell_2 : List UInt8 := [182, 1, 84, 153, 0, 11, 21, 4, 184, 1, 87, 154, 0, 6, 16, 254, 172, 42, 180, 0, 86, 27, 4, 100]
abbrev dktX0_tell_2 : List UInt8 := dkwX0_tell_2 ++ dktX0_tell_3
def dkwX0_tell_1 : List UInt8 := [185, 0, 221, 2, 0, 192, 1, 69, 180, 1, 81, 180, 0, 240, 28, 185, 0, 221, 2, 0, 192, 1, 8, 29]
abbrev dktX0_tell_1 : List UInt8 := dkwX0_tell_1 ++ dktX0_tell_2
def dkwX0_tell_0 : List UInt8 := [42, 27, 28, 182, 1, 77, 154, 0, 5, 2, 172, 29, 2, 159, 0, 40, 42, 180, 0, 86, 27, 4, 100]
abbrev dktX0_tell_0 : List UInt8 := dkwX0_tell_0 ++ dktX0_tell_1
theorem dksX0_tell_0 : cX0_tell.data.toList.drop 0 = dktX0_tell_0 := by decide +kernel
theorem dksX0_tell_1 : cX0_tell.data.toList.drop 23 = dktX0_tell_1 := dk_seg dksX0_tell_0 23 rfl rfl
theorem dksX0_tell_2 : cX0_tell.data.toList.drop 47 = dktX0_tell_2 := dk_seg dksX0_tell_1 24 rfl rfl
theorem dksX0_tell_3 : cX0_tell.data.toList.drop 71 = dktX0_tell_3 := dk_seg dksX0_tell_2 24 rfl rfl
theorem dksX0_tell_4 : cX0_tell.data.toList.drop 95 = dktX0_tell_4 := dk_seg dksX0_tell_3 24 rfl rfl
theorem dksX0_tell_5 : cX0_tell.data.toList.drop 119 = dktX0_tell_5 := dk_seg dksX0_tell_4 24 rfl rfl
theorem dX0_tell_0 : decode cX0_tell 0 = .ok (.aload_n 0, 1) := dk_42 (dk_at dksX0_tell_0 0 rfl rfl)
theorem dX0_tell_1 : decode cX0_tell 1 = .ok (.iload_n 1, 1) := dk_27 (dk_at dksX0_tell_0 1 rfl rfl)
theorem dX0_tell_2 : decode cX0_tell 2 = .ok (.iload_n 2, 1) := dk_28 (dk_at dksX0_tell_0 2 rfl rfl)
theorem dX0_tell_3 : decode cX0_tell 3 = .ok (.invokevirtual 333, 3) := dk_182 1 77 (dk_at dksX0_tell_0 3 rfl rfl)
theorem dX0_tell_6 : decode cX0_tell 6 = .ok (.ifCond .ne 5, 3) := dk_154 0 5 (dk_at dksX0_tell_0 6 rfl rfl)
theorem dX0_tell_9 : decode cX0_tell 9 = .ok (.iconst (-1), 1) := dk_2 (dk_at dksX0_tell_0 9 rfl rfl)
theorem dX0_tell_10 : decode cX0_tell 10 = .ok (.ireturn, 1) := dk_172 (dk_at dksX0_tell_0 10 rfl rfl)
theorem dX0_tell_11 : decode cX0_tell 11 = .ok (.iload_n 3, 1) := dk_29 (dk_at dksX0_tell_0 11 rfl rfl)
theorem dX0_tell_12 : decode cX0_tell 12 = .ok (.iconst (-1), 1) := dk_2 (dk_at dksX0_tell_0 12 rfl rfl)
theorem dX0_tell_13 : decode cX0_tell 13 = .ok (.if_icmp .eq 40, 3) := dk_159 0 40 (dk_at dksX0_tell_0 13 rfl rfl)
theorem dX0_tell_16 : decode cX0_tell 16 = .ok (.aload_n 0, 1) := dk_42 (dk_at dksX0_tell_0 16 rfl rfl)
theorem dX0_tell_17 : decode cX0_tell 17 = .ok (.getfield 86, 3) := dk_180 0 86 (dk_at dksX0_tell_0 17 rfl rfl)
theorem dX0_tell_20 : decode cX0_tell 20 = .ok (.iload_n 1, 1) := dk_27 (dk_at dksX0_tell_0 20 rfl rfl)
theorem dX0_tell_21 : decode cX0_tell 21 = .ok (.iconst 1, 1) := dk_4 (dk_at dksX0_tell_0 21 rfl rfl)
theorem dX0_tell_22 : decode cX0_tell 22 = .ok (.isub, 1) := dk_100 (dk_at dksX0_tell_0 22 rfl rfl)
theorem dX0_tell_23 : decode cX0_tell 23 = .ok (.invokeinterface 221 2, 5) := by decide +kernel
theorem dX0_tell_28 : decode cX0_tell 28 = .ok (.checkcast 325, 3) := dk_192 1 69 (dk_at dksX0_tell_1 5 rfl rfl)
theorem dX0_tell_31 : decode cX0_tell 31 = .ok (.getfield 337, 3) := dk_180 1 81 (dk_at dksX0_tell_1 8 rfl rfl)
theorem dX0_tell_34 : decode cX0_tell 34 = .ok (.getfield 240, 3) := dk_180 0 240 (dk_at dksX0_tell_1 11 rfl rfl)
theorem dX0_tell_37 : decode cX0_tell 37 = .ok (.iload_n 2, 1) := dk_28 (dk_at dksX0_tell_1 14 rfl rfl)
theorem dX0_tell_38 : decode cX0_tell 38 = .ok (.invokeinterface 221 2, 5) := by decide +kernel
theorem dX0_tell_43 : decode cX0_tell 43 = .ok (.checkcast 264, 3) := dk_192 1 8 (dk_at dksX0_tell_1 20 rfl rfl)
theorem dX0_tell_46 : decode cX0_tell 46 = .ok (.iload_n 3, 1) := dk_29 (dk_at dksX0_tell_1 23 rfl rfl)
theorem dX0_tell_47 : decode cX0_tell 47 = .ok (.invokevirtual 340, 3) := dk_182 1 84 (dk_at dksX0_tell_2 0 rfl rfl)
theorem dX0_tell_50 : decode cX0_tell 50 = .ok (.ifCond .eq 11, 3) := dk_153 0 11 (dk_at dksX0_tell_2 3 rfl rfl)
theorem dX0_tell_53 : decode cX0_tell 53 = .ok (.iload 4, 2) := dk_21 4 (dk_at dksX0_tell_2 6 rfl rfl)
theorem dX0_tell_55 : decode cX0_tell 55 = .ok (.invokestatic 343, 3) := dk_184 1 87 (dk_at dksX0_tell_2 8 rfl rfl)
theorem dX0_tell_58 : decode cX0_tell 58 = .ok (.ifCond .ne 6, 3) := dk_154 0 6 (dk_at dksX0_tell_2 11 rfl rfl)
theorem dX0_tell_61 : decode cX0_tell 61 = .ok (.bipush (-2), 2) := dk_16 254 (dk_at dksX0_tell_2 14 rfl rfl)
theorem dX0_tell_63 : decode cX0_tell 63 = .ok (.ireturn, 1) := dk_172 (dk_at dksX0_tell_2 16 rfl rfl)
theorem dX0_tell_64 : decode cX0_tell 64 = .ok (.aload_n 0, 1) := dk_42 (dk_at dksX0_tell_2 17 rfl rfl)
theorem dX0_tell_65 : decode cX0_tell 65 = .ok (.getfield 86, 3) := dk_180 0 86 (dk_at dksX0_tell_2 18 rfl rfl)
theorem dX0_tell_68 : decode cX0_tell 68 = .ok (.iload_n 1, 1) := dk_27 (dk_at dksX0_tell_2 21 rfl rfl)
theorem dX0_tell_69 : decode cX0_tell 69 = .ok (.iconst 1, 1) := dk_4 (dk_at dksX0_tell_2 22 rfl rfl)
theorem dX0_tell_70 : decode cX0_tell 70 = .ok (.isub, 1) := dk_100 (dk_at dksX0_tell_2 23 rfl rfl)
theorem dX0_tell_71 : decode cX0_tell 71 = .ok (.invokeinterface 221 2, 5) := by decide +kernel
theorem dX0_tell_76 : decode cX0_tell 76 = .ok (.checkcast 325, 3) := dk_192 1 69 (dk_at dksX0_tell_3 5 rfl rfl)
theorem dX0_tell_79 : decode cX0_tell 79 = .ok (.getfield 332, 3) := dk_180 1 76 (dk_at dksX0_tell_3 8 rfl rfl)
theorem dX0_tell_82 : decode cX0_tell 82 = .ok (.iload_n 2, 1) := dk_28 (dk_at dksX0_tell_3 11 rfl rfl)
theorem dX0_tell_83 : decode cX0_tell 83 = .ok (.invokeinterface 221 2, 5) := by decide +kernel
theorem dX0_tell_88 : decode cX0_tell 88 = .ok (.checkcast 346, 3) := dk_192 1 90 (dk_at dksX0_tell_3 17 rfl rfl)
theorem dX0_tell_91 : decode cX0_tell 91 = .ok (.astore 5, 2) := dk_58 5 (dk_at dksX0_tell_3 20 rfl rfl)
theorem dX0_tell_93 : decode cX0_tell 93 = .ok (.aload 5, 2) := dk_25 5 (dk_at dksX0_tell_3 22 rfl rfl)
theorem dX0_tell_95 : decode cX0_tell 95 = .ok (.getfield 348, 3) := dk_180 1 92 (dk_at dksX0_tell_4 0 rfl rfl)
theorem dX0_tell_98 : decode cX0_tell 98 = .ok (.bipush 6, 2) := dk_16 6 (dk_at dksX0_tell_4 3 rfl rfl)
theorem dX0_tell_100 : decode cX0_tell 100 = .ok (.if_icmp .ne 6, 3) := dk_160 0 6 (dk_at dksX0_tell_4 5 rfl rfl)
theorem dX0_tell_103 : decode cX0_tell 103 = .ok (.bipush (-4), 2) := dk_16 252 (dk_at dksX0_tell_4 8 rfl rfl)
theorem dX0_tell_105 : decode cX0_tell 105 = .ok (.ireturn, 1) := dk_172 (dk_at dksX0_tell_4 10 rfl rfl)
theorem dX0_tell_106 : decode cX0_tell 106 = .ok (.aload 5, 2) := dk_25 5 (dk_at dksX0_tell_4 11 rfl rfl)
theorem dX0_tell_108 : decode cX0_tell 108 = .ok (.iload_n 3, 1) := dk_29 (dk_at dksX0_tell_4 13 rfl rfl)
theorem dX0_tell_109 : decode cX0_tell 109 = .ok (.iload 4, 2) := dk_21 4 (dk_at dksX0_tell_4 14 rfl rfl)
theorem dX0_tell_111 : decode cX0_tell 111 = .ok (.invokevirtual 349, 3) := dk_182 1 93 (dk_at dksX0_tell_4 16 rfl rfl)
theorem dX0_tell_114 : decode cX0_tell 114 = .ok (.aload 5, 2) := dk_25 5 (dk_at dksX0_tell_4 19 rfl rfl)
theorem dX0_tell_116 : decode cX0_tell 116 = .ok (.getfield 348, 3) := dk_180 1 92 (dk_at dksX0_tell_4 21 rfl rfl)
theorem dX0_tell_119 : decode cX0_tell 119 = .ok (.ireturn, 1) := dk_172 (dk_at dksX0_tell_5 0 rfl rfl)
abbrev cX0_isFact : ByteArray := prog_1_method_21_code
def yX0_isFact : MethodName := ⟨RX0, "isFact", "(II)Z"⟩
def dkwX0_isFact_2 : List UInt8 := [172]
abbrev dktX0_isFact_2 : List UInt8 := dkwX0_isFact_2 ++ []
def dkwX0_isFact_1 : List UInt8 := [185, 0, 221, 2, 0, 192, 1, 69, 180, 1, 76, 185, 0, 201, 1, 0, 162, 0, 7, 4, 167, 0, 4, 3]
abbrev dktX0_isFact_1 : List UInt8 := dkwX0_isFact_1 ++ dktX0_isFact_2
def dkwX0_isFact_0 : List UInt8 := [42, 27, 182, 1, 73, 153, 0, 38, 28, 155, 0, 34, 28, 42, 180, 0, 86, 27, 4, 100]
abbrev dktX0_isFact_0 : List UInt8 := dkwX0_isFact_0 ++ dktX0_isFact_1
theorem dksX0_isFact_0 : cX0_isFact.data.toList.drop 0 = dktX0_isFact_0 := by decide +kernel
theorem dksX0_isFact_1 : cX0_isFact.data.toList.drop 20 = dktX0_isFact_1 := dk_seg dksX0_isFact_0 20 rfl rfl
theorem dksX0_isFact_2 : cX0_isFact.data.toList.drop 44 = dktX0_isFact_2 := dk_seg dksX0_isFact_1 24 rfl rfl
theorem dX0_isFact_0 : decode cX0_isFact 0 = .ok (.aload_n 0, 1) := dk_42 (dk_at dksX0_isFact_0 0 rfl rfl)
theorem dX0_isFact_1 : decode cX0_isFact 1 = .ok (.iload_n 1, 1) := dk_27 (dk_at dksX0_isFact_0 1 rfl rfl)
theorem dX0_isFact_2 : decode cX0_isFact 2 = .ok (.invokevirtual 329, 3) := dk_182 1 73 (dk_at dksX0_isFact_0 2 rfl rfl)
theorem dX0_isFact_5 : decode cX0_isFact 5 = .ok (.ifCond .eq 38, 3) := dk_153 0 38 (dk_at dksX0_isFact_0 5 rfl rfl)
theorem dX0_isFact_8 : decode cX0_isFact 8 = .ok (.iload_n 2, 1) := dk_28 (dk_at dksX0_isFact_0 8 rfl rfl)
theorem dX0_isFact_9 : decode cX0_isFact 9 = .ok (.ifCond .lt 34, 3) := dk_155 0 34 (dk_at dksX0_isFact_0 9 rfl rfl)
theorem dX0_isFact_12 : decode cX0_isFact 12 = .ok (.iload_n 2, 1) := dk_28 (dk_at dksX0_isFact_0 12 rfl rfl)
theorem dX0_isFact_13 : decode cX0_isFact 13 = .ok (.aload_n 0, 1) := dk_42 (dk_at dksX0_isFact_0 13 rfl rfl)
theorem dX0_isFact_14 : decode cX0_isFact 14 = .ok (.getfield 86, 3) := dk_180 0 86 (dk_at dksX0_isFact_0 14 rfl rfl)
theorem dX0_isFact_17 : decode cX0_isFact 17 = .ok (.iload_n 1, 1) := dk_27 (dk_at dksX0_isFact_0 17 rfl rfl)
theorem dX0_isFact_18 : decode cX0_isFact 18 = .ok (.iconst 1, 1) := dk_4 (dk_at dksX0_isFact_0 18 rfl rfl)
theorem dX0_isFact_19 : decode cX0_isFact 19 = .ok (.isub, 1) := dk_100 (dk_at dksX0_isFact_0 19 rfl rfl)
theorem dX0_isFact_20 : decode cX0_isFact 20 = .ok (.invokeinterface 221 2, 5) := by decide +kernel
theorem dX0_isFact_25 : decode cX0_isFact 25 = .ok (.checkcast 325, 3) := dk_192 1 69 (dk_at dksX0_isFact_1 5 rfl rfl)
theorem dX0_isFact_28 : decode cX0_isFact 28 = .ok (.getfield 332, 3) := dk_180 1 76 (dk_at dksX0_isFact_1 8 rfl rfl)
theorem dX0_isFact_31 : decode cX0_isFact 31 = .ok (.invokeinterface 201 1, 5) := by decide +kernel
theorem dX0_isFact_36 : decode cX0_isFact 36 = .ok (.if_icmp .ge 7, 3) := dk_162 0 7 (dk_at dksX0_isFact_1 16 rfl rfl)
theorem dX0_isFact_39 : decode cX0_isFact 39 = .ok (.iconst 1, 1) := dk_4 (dk_at dksX0_isFact_1 19 rfl rfl)
theorem dX0_isFact_40 : decode cX0_isFact 40 = .ok (.goto 4, 3) := dk_167 0 4 (dk_at dksX0_isFact_1 20 rfl rfl)
theorem dX0_isFact_43 : decode cX0_isFact 43 = .ok (.iconst 0, 1) := dk_3 (dk_at dksX0_isFact_1 23 rfl rfl)
theorem dX0_isFact_44 : decode cX0_isFact 44 = .ok (.ireturn, 1) := dk_172 (dk_at dksX0_isFact_2 0 rfl rfl)
abbrev cX0_isEvent : ByteArray := prog_1_method_18_code
def yX0_isEvent : MethodName := ⟨RX0, "isEvent", "(I)Z"⟩
def dkwX0_isEvent_0 : List UInt8 := [27, 158, 0, 20, 27, 42, 180, 0, 86, 185, 0, 201, 1, 0, 163, 0, 7, 4, 167, 0, 4, 3, 172]
abbrev dktX0_isEvent_0 : List UInt8 := dkwX0_isEvent_0 ++ []
theorem dksX0_isEvent_0 : cX0_isEvent.data.toList.drop 0 = dktX0_isEvent_0 := by decide +kernel
theorem dX0_isEvent_0 : decode cX0_isEvent 0 = .ok (.iload_n 1, 1) := dk_27 (dk_at dksX0_isEvent_0 0 rfl rfl)
theorem dX0_isEvent_1 : decode cX0_isEvent 1 = .ok (.ifCond .le 20, 3) := dk_158 0 20 (dk_at dksX0_isEvent_0 1 rfl rfl)
theorem dX0_isEvent_4 : decode cX0_isEvent 4 = .ok (.iload_n 1, 1) := dk_27 (dk_at dksX0_isEvent_0 4 rfl rfl)
theorem dX0_isEvent_5 : decode cX0_isEvent 5 = .ok (.aload_n 0, 1) := dk_42 (dk_at dksX0_isEvent_0 5 rfl rfl)
theorem dX0_isEvent_6 : decode cX0_isEvent 6 = .ok (.getfield 86, 3) := dk_180 0 86 (dk_at dksX0_isEvent_0 6 rfl rfl)
theorem dX0_isEvent_9 : decode cX0_isEvent 9 = .ok (.invokeinterface 201 1, 5) := by decide +kernel
theorem dX0_isEvent_14 : decode cX0_isEvent 14 = .ok (.if_icmp .gt 7, 3) := dk_163 0 7 (dk_at dksX0_isEvent_0 14 rfl rfl)
theorem dX0_isEvent_17 : decode cX0_isEvent 17 = .ok (.iconst 1, 1) := dk_4 (dk_at dksX0_isEvent_0 17 rfl rfl)
theorem dX0_isEvent_18 : decode cX0_isEvent 18 = .ok (.goto 4, 3) := dk_167 0 4 (dk_at dksX0_isEvent_0 18 rfl rfl)
theorem dX0_isEvent_21 : decode cX0_isEvent 21 = .ok (.iconst 0, 1) := dk_3 (dk_at dksX0_isEvent_0 21 rfl rfl)
theorem dX0_isEvent_22 : decode cX0_isEvent 22 = .ok (.ireturn, 1) := dk_172 (dk_at dksX0_isEvent_0 22 rfl rfl)
abbrev cX0_isDay : ByteArray := prog_1_method_19_code
def yX0_isDay : MethodName := ⟨RX0, "isDay", "(I)Z"⟩
def dkwX0_isDay_0 : List UInt8 := [26, 155, 0, 14, 26, 17, 39, 15, 163, 0, 7, 4, 167, 0, 4, 3, 172]
abbrev dktX0_isDay_0 : List UInt8 := dkwX0_isDay_0 ++ []
theorem dksX0_isDay_0 : cX0_isDay.data.toList.drop 0 = dktX0_isDay_0 := by decide +kernel
theorem dX0_isDay_0 : decode cX0_isDay 0 = .ok (.iload_n 0, 1) := dk_26 (dk_at dksX0_isDay_0 0 rfl rfl)
theorem dX0_isDay_1 : decode cX0_isDay 1 = .ok (.ifCond .lt 14, 3) := dk_155 0 14 (dk_at dksX0_isDay_0 1 rfl rfl)
theorem dX0_isDay_4 : decode cX0_isDay 4 = .ok (.iload_n 0, 1) := dk_26 (dk_at dksX0_isDay_0 4 rfl rfl)
theorem dX0_isDay_5 : decode cX0_isDay 5 = .ok (.sipush 9999, 3) := dk_17 39 15 (dk_at dksX0_isDay_0 5 rfl rfl)
theorem dX0_isDay_8 : decode cX0_isDay 8 = .ok (.if_icmp .gt 7, 3) := dk_163 0 7 (dk_at dksX0_isDay_0 8 rfl rfl)
theorem dX0_isDay_11 : decode cX0_isDay 11 = .ok (.iconst 1, 1) := dk_4 (dk_at dksX0_isDay_0 11 rfl rfl)
theorem dX0_isDay_12 : decode cX0_isDay 12 = .ok (.goto 4, 3) := dk_167 0 4 (dk_at dksX0_isDay_0 12 rfl rfl)
theorem dX0_isDay_15 : decode cX0_isDay 15 = .ok (.iconst 0, 1) := dk_3 (dk_at dksX0_isDay_0 15 rfl rfl)
theorem dX0_isDay_16 : decode cX0_isDay 16 = .ok (.ireturn, 1) := dk_172 (dk_at dksX0_isDay_0 16 rfl rfl)
abbrev cX0_fact : ByteArray := prog_1_method_23_code
def yX0_fact : MethodName := ⟨RX0, "fact", "(III)I"⟩
def dkwX0_fact_2 : List UInt8 := [182, 1, 95, 167, 0, 5, 16, 254, 172]
abbrev dktX0_fact_2 : List UInt8 := dkwX0_fact_2 ++ []
def dkwX0_fact_1 : List UInt8 := [100, 185, 0, 221, 2, 0, 192, 1, 69, 180, 1, 76, 28, 185, 0, 221, 2, 0, 192, 1, 90, 29, 2]
abbrev dktX0_fact_1 : List UInt8 := dkwX0_fact_1 ++ dktX0_fact_2
def dkwX0_fact_0 : List UInt8 := [42, 27, 28, 182, 1, 77, 154, 0, 5, 2, 172, 29, 184, 1, 87, 153, 0, 38, 42, 180, 0, 86, 27, 4]
abbrev dktX0_fact_0 : List UInt8 := dkwX0_fact_0 ++ dktX0_fact_1
theorem dksX0_fact_0 : cX0_fact.data.toList.drop 0 = dktX0_fact_0 := by decide +kernel
theorem dksX0_fact_1 : cX0_fact.data.toList.drop 24 = dktX0_fact_1 := dk_seg dksX0_fact_0 24 rfl rfl
theorem dksX0_fact_2 : cX0_fact.data.toList.drop 47 = dktX0_fact_2 := dk_seg dksX0_fact_1 23 rfl rfl
theorem dX0_fact_0 : decode cX0_fact 0 = .ok (.aload_n 0, 1) := dk_42 (dk_at dksX0_fact_0 0 rfl rfl)
theorem dX0_fact_1 : decode cX0_fact 1 = .ok (.iload_n 1, 1) := dk_27 (dk_at dksX0_fact_0 1 rfl rfl)
theorem dX0_fact_2 : decode cX0_fact 2 = .ok (.iload_n 2, 1) := dk_28 (dk_at dksX0_fact_0 2 rfl rfl)
theorem dX0_fact_3 : decode cX0_fact 3 = .ok (.invokevirtual 333, 3) := dk_182 1 77 (dk_at dksX0_fact_0 3 rfl rfl)
theorem dX0_fact_6 : decode cX0_fact 6 = .ok (.ifCond .ne 5, 3) := dk_154 0 5 (dk_at dksX0_fact_0 6 rfl rfl)
theorem dX0_fact_9 : decode cX0_fact 9 = .ok (.iconst (-1), 1) := dk_2 (dk_at dksX0_fact_0 9 rfl rfl)
theorem dX0_fact_10 : decode cX0_fact 10 = .ok (.ireturn, 1) := dk_172 (dk_at dksX0_fact_0 10 rfl rfl)
theorem dX0_fact_11 : decode cX0_fact 11 = .ok (.iload_n 3, 1) := dk_29 (dk_at dksX0_fact_0 11 rfl rfl)
theorem dX0_fact_12 : decode cX0_fact 12 = .ok (.invokestatic 343, 3) := dk_184 1 87 (dk_at dksX0_fact_0 12 rfl rfl)
theorem dX0_fact_15 : decode cX0_fact 15 = .ok (.ifCond .eq 38, 3) := dk_153 0 38 (dk_at dksX0_fact_0 15 rfl rfl)
theorem dX0_fact_18 : decode cX0_fact 18 = .ok (.aload_n 0, 1) := dk_42 (dk_at dksX0_fact_0 18 rfl rfl)
theorem dX0_fact_19 : decode cX0_fact 19 = .ok (.getfield 86, 3) := dk_180 0 86 (dk_at dksX0_fact_0 19 rfl rfl)
theorem dX0_fact_22 : decode cX0_fact 22 = .ok (.iload_n 1, 1) := dk_27 (dk_at dksX0_fact_0 22 rfl rfl)
theorem dX0_fact_23 : decode cX0_fact 23 = .ok (.iconst 1, 1) := dk_4 (dk_at dksX0_fact_0 23 rfl rfl)
theorem dX0_fact_24 : decode cX0_fact 24 = .ok (.isub, 1) := dk_100 (dk_at dksX0_fact_1 0 rfl rfl)
theorem dX0_fact_25 : decode cX0_fact 25 = .ok (.invokeinterface 221 2, 5) := by decide +kernel
theorem dX0_fact_30 : decode cX0_fact 30 = .ok (.checkcast 325, 3) := dk_192 1 69 (dk_at dksX0_fact_1 6 rfl rfl)
theorem dX0_fact_33 : decode cX0_fact 33 = .ok (.getfield 332, 3) := dk_180 1 76 (dk_at dksX0_fact_1 9 rfl rfl)
theorem dX0_fact_36 : decode cX0_fact 36 = .ok (.iload_n 2, 1) := dk_28 (dk_at dksX0_fact_1 12 rfl rfl)
theorem dX0_fact_37 : decode cX0_fact 37 = .ok (.invokeinterface 221 2, 5) := by decide +kernel
theorem dX0_fact_42 : decode cX0_fact 42 = .ok (.checkcast 346, 3) := dk_192 1 90 (dk_at dksX0_fact_1 18 rfl rfl)
theorem dX0_fact_45 : decode cX0_fact 45 = .ok (.iload_n 3, 1) := dk_29 (dk_at dksX0_fact_1 21 rfl rfl)
theorem dX0_fact_46 : decode cX0_fact 46 = .ok (.iconst (-1), 1) := dk_2 (dk_at dksX0_fact_1 22 rfl rfl)
theorem dX0_fact_47 : decode cX0_fact 47 = .ok (.invokevirtual 351, 3) := dk_182 1 95 (dk_at dksX0_fact_2 0 rfl rfl)
theorem dX0_fact_50 : decode cX0_fact 50 = .ok (.goto 5, 3) := dk_167 0 5 (dk_at dksX0_fact_2 3 rfl rfl)
theorem dX0_fact_53 : decode cX0_fact 53 = .ok (.bipush (-2), 2) := dk_16 254 (dk_at dksX0_fact_2 6 rfl rfl)
theorem dX0_fact_55 : decode cX0_fact 55 = .ok (.ireturn, 1) := dk_172 (dk_at dksX0_fact_2 8 rfl rfl)
abbrev cX0_covers : ByteArray := prog_1_method_25_code
def yX0_covers : MethodName := ⟨RX0, "covers", "(II)I"⟩
def dkwX0_covers_1 : List UInt8 := [180, 1, 106, 182, 1, 109, 172]
abbrev dktX0_covers_1 : List UInt8 := dkwX0_covers_1 ++ []
def dkwX0_covers_0 : List UInt8 := [42, 27, 28, 182, 1, 103, 62, 29, 156, 0, 7, 29, 167, 0, 17, 42, 180, 0, 117, 42, 180, 0, 117]
abbrev dktX0_covers_0 : List UInt8 := dkwX0_covers_0 ++ dktX0_covers_1
theorem dksX0_covers_0 : cX0_covers.data.toList.drop 0 = dktX0_covers_0 := by decide +kernel
theorem dksX0_covers_1 : cX0_covers.data.toList.drop 23 = dktX0_covers_1 := dk_seg dksX0_covers_0 23 rfl rfl
theorem dX0_covers_0 : decode cX0_covers 0 = .ok (.aload_n 0, 1) := dk_42 (dk_at dksX0_covers_0 0 rfl rfl)
theorem dX0_covers_1 : decode cX0_covers 1 = .ok (.iload_n 1, 1) := dk_27 (dk_at dksX0_covers_0 1 rfl rfl)
theorem dX0_covers_2 : decode cX0_covers 2 = .ok (.iload_n 2, 1) := dk_28 (dk_at dksX0_covers_0 2 rfl rfl)
theorem dX0_covers_3 : decode cX0_covers 3 = .ok (.invokevirtual 359, 3) := dk_182 1 103 (dk_at dksX0_covers_0 3 rfl rfl)
theorem dX0_covers_6 : decode cX0_covers 6 = .ok (.istore_n 3, 1) := dk_62 (dk_at dksX0_covers_0 6 rfl rfl)
theorem dX0_covers_7 : decode cX0_covers 7 = .ok (.iload_n 3, 1) := dk_29 (dk_at dksX0_covers_0 7 rfl rfl)
theorem dX0_covers_8 : decode cX0_covers 8 = .ok (.ifCond .ge 7, 3) := dk_156 0 7 (dk_at dksX0_covers_0 8 rfl rfl)
theorem dX0_covers_11 : decode cX0_covers 11 = .ok (.iload_n 3, 1) := dk_29 (dk_at dksX0_covers_0 11 rfl rfl)
theorem dX0_covers_12 : decode cX0_covers 12 = .ok (.goto 17, 3) := dk_167 0 17 (dk_at dksX0_covers_0 12 rfl rfl)
theorem dX0_covers_15 : decode cX0_covers 15 = .ok (.aload_n 0, 1) := dk_42 (dk_at dksX0_covers_0 15 rfl rfl)
theorem dX0_covers_16 : decode cX0_covers 16 = .ok (.getfield 117, 3) := dk_180 0 117 (dk_at dksX0_covers_0 16 rfl rfl)
theorem dX0_covers_19 : decode cX0_covers 19 = .ok (.aload_n 0, 1) := dk_42 (dk_at dksX0_covers_0 19 rfl rfl)
theorem dX0_covers_20 : decode cX0_covers 20 = .ok (.getfield 117, 3) := dk_180 0 117 (dk_at dksX0_covers_0 20 rfl rfl)
theorem dX0_covers_23 : decode cX0_covers 23 = .ok (.getfield 362, 3) := dk_180 1 106 (dk_at dksX0_covers_1 0 rfl rfl)
theorem dX0_covers_26 : decode cX0_covers 26 = .ok (.invokevirtual 365, 3) := dk_182 1 109 (dk_at dksX0_covers_1 3 rfl rfl)
theorem dX0_covers_29 : decode cX0_covers 29 = .ok (.ireturn, 1) := dk_172 (dk_at dksX0_covers_1 6 rfl rfl)
abbrev cX0_look : ByteArray := prog_1_method_24_code
def yX0_look : MethodName := ⟨RX0, "look", "(II)I"⟩
def dkwX0_look_2 : List UInt8 := [182, 1, 99, 3, 172]
abbrev dktX0_look_2 : List UInt8 := dkwX0_look_2 ++ []
def dkwX0_look_1 : List UInt8 := [27, 4, 100, 185, 0, 221, 2, 0, 192, 1, 69, 78, 42, 180, 0, 117, 45, 180, 1, 81, 45, 28]
abbrev dktX0_look_1 : List UInt8 := dkwX0_look_1 ++ dktX0_look_2
def dkwX0_look_0 : List UInt8 := [42, 27, 182, 1, 73, 154, 0, 5, 2, 172, 28, 184, 1, 87, 154, 0, 6, 16, 254, 172, 42, 180, 0, 86]
abbrev dktX0_look_0 : List UInt8 := dkwX0_look_0 ++ dktX0_look_1
theorem dksX0_look_0 : cX0_look.data.toList.drop 0 = dktX0_look_0 := by decide +kernel
theorem dksX0_look_1 : cX0_look.data.toList.drop 24 = dktX0_look_1 := dk_seg dksX0_look_0 24 rfl rfl
theorem dksX0_look_2 : cX0_look.data.toList.drop 46 = dktX0_look_2 := dk_seg dksX0_look_1 22 rfl rfl
theorem dX0_look_0 : decode cX0_look 0 = .ok (.aload_n 0, 1) := dk_42 (dk_at dksX0_look_0 0 rfl rfl)
theorem dX0_look_1 : decode cX0_look 1 = .ok (.iload_n 1, 1) := dk_27 (dk_at dksX0_look_0 1 rfl rfl)
theorem dX0_look_2 : decode cX0_look 2 = .ok (.invokevirtual 329, 3) := dk_182 1 73 (dk_at dksX0_look_0 2 rfl rfl)
theorem dX0_look_5 : decode cX0_look 5 = .ok (.ifCond .ne 5, 3) := dk_154 0 5 (dk_at dksX0_look_0 5 rfl rfl)
theorem dX0_look_8 : decode cX0_look 8 = .ok (.iconst (-1), 1) := dk_2 (dk_at dksX0_look_0 8 rfl rfl)
theorem dX0_look_9 : decode cX0_look 9 = .ok (.ireturn, 1) := dk_172 (dk_at dksX0_look_0 9 rfl rfl)
theorem dX0_look_10 : decode cX0_look 10 = .ok (.iload_n 2, 1) := dk_28 (dk_at dksX0_look_0 10 rfl rfl)
theorem dX0_look_11 : decode cX0_look 11 = .ok (.invokestatic 343, 3) := dk_184 1 87 (dk_at dksX0_look_0 11 rfl rfl)
theorem dX0_look_14 : decode cX0_look 14 = .ok (.ifCond .ne 6, 3) := dk_154 0 6 (dk_at dksX0_look_0 14 rfl rfl)
theorem dX0_look_17 : decode cX0_look 17 = .ok (.bipush (-2), 2) := dk_16 254 (dk_at dksX0_look_0 17 rfl rfl)
theorem dX0_look_19 : decode cX0_look 19 = .ok (.ireturn, 1) := dk_172 (dk_at dksX0_look_0 19 rfl rfl)
theorem dX0_look_20 : decode cX0_look 20 = .ok (.aload_n 0, 1) := dk_42 (dk_at dksX0_look_0 20 rfl rfl)
theorem dX0_look_21 : decode cX0_look 21 = .ok (.getfield 86, 3) := dk_180 0 86 (dk_at dksX0_look_0 21 rfl rfl)
theorem dX0_look_24 : decode cX0_look 24 = .ok (.iload_n 1, 1) := dk_27 (dk_at dksX0_look_1 0 rfl rfl)
theorem dX0_look_25 : decode cX0_look 25 = .ok (.iconst 1, 1) := dk_4 (dk_at dksX0_look_1 1 rfl rfl)
theorem dX0_look_26 : decode cX0_look 26 = .ok (.isub, 1) := dk_100 (dk_at dksX0_look_1 2 rfl rfl)
theorem dX0_look_27 : decode cX0_look 27 = .ok (.invokeinterface 221 2, 5) := by decide +kernel
theorem dX0_look_32 : decode cX0_look 32 = .ok (.checkcast 325, 3) := dk_192 1 69 (dk_at dksX0_look_1 8 rfl rfl)
theorem dX0_look_35 : decode cX0_look 35 = .ok (.astore_n 3, 1) := dk_78 (dk_at dksX0_look_1 11 rfl rfl)
theorem dX0_look_36 : decode cX0_look 36 = .ok (.aload_n 0, 1) := dk_42 (dk_at dksX0_look_1 12 rfl rfl)
theorem dX0_look_37 : decode cX0_look 37 = .ok (.getfield 117, 3) := dk_180 0 117 (dk_at dksX0_look_1 13 rfl rfl)
theorem dX0_look_40 : decode cX0_look 40 = .ok (.aload_n 3, 1) := dk_45 (dk_at dksX0_look_1 16 rfl rfl)
theorem dX0_look_41 : decode cX0_look 41 = .ok (.getfield 337, 3) := dk_180 1 81 (dk_at dksX0_look_1 17 rfl rfl)
theorem dX0_look_44 : decode cX0_look 44 = .ok (.aload_n 3, 1) := dk_45 (dk_at dksX0_look_1 20 rfl rfl)
theorem dX0_look_45 : decode cX0_look 45 = .ok (.iload_n 2, 1) := dk_28 (dk_at dksX0_look_1 21 rfl rfl)
theorem dX0_look_46 : decode cX0_look 46 = .ok (.invokevirtual 355, 3) := dk_182 1 99 (dk_at dksX0_look_2 0 rfl rfl)
theorem dX0_look_49 : decode cX0_look 49 = .ok (.iconst 0, 1) := dk_3 (dk_at dksX0_look_2 3 rfl rfl)
theorem dX0_look_50 : decode cX0_look 50 = .ok (.ireturn, 1) := dk_172 (dk_at dksX0_look_2 4 rfl rfl)
abbrev cX0_settles : ByteArray := prog_1_method_26_code
def yX0_settles : MethodName := ⟨RX0, "settles", "(II)I"⟩
def dkwX0_settles_0 : List UInt8 := [42, 27, 28, 182, 1, 103, 62, 29, 156, 0, 7, 29, 167, 0, 11, 42, 180, 0, 117, 3, 182, 1, 113, 172]
abbrev dktX0_settles_0 : List UInt8 := dkwX0_settles_0 ++ []
theorem dksX0_settles_0 : cX0_settles.data.toList.drop 0 = dktX0_settles_0 := by decide +kernel
theorem dX0_settles_0 : decode cX0_settles 0 = .ok (.aload_n 0, 1) := dk_42 (dk_at dksX0_settles_0 0 rfl rfl)
theorem dX0_settles_1 : decode cX0_settles 1 = .ok (.iload_n 1, 1) := dk_27 (dk_at dksX0_settles_0 1 rfl rfl)
theorem dX0_settles_2 : decode cX0_settles 2 = .ok (.iload_n 2, 1) := dk_28 (dk_at dksX0_settles_0 2 rfl rfl)
theorem dX0_settles_3 : decode cX0_settles 3 = .ok (.invokevirtual 359, 3) := dk_182 1 103 (dk_at dksX0_settles_0 3 rfl rfl)
theorem dX0_settles_6 : decode cX0_settles 6 = .ok (.istore_n 3, 1) := dk_62 (dk_at dksX0_settles_0 6 rfl rfl)
theorem dX0_settles_7 : decode cX0_settles 7 = .ok (.iload_n 3, 1) := dk_29 (dk_at dksX0_settles_0 7 rfl rfl)
theorem dX0_settles_8 : decode cX0_settles 8 = .ok (.ifCond .ge 7, 3) := dk_156 0 7 (dk_at dksX0_settles_0 8 rfl rfl)
theorem dX0_settles_11 : decode cX0_settles 11 = .ok (.iload_n 3, 1) := dk_29 (dk_at dksX0_settles_0 11 rfl rfl)
theorem dX0_settles_12 : decode cX0_settles 12 = .ok (.goto 11, 3) := dk_167 0 11 (dk_at dksX0_settles_0 12 rfl rfl)
theorem dX0_settles_15 : decode cX0_settles 15 = .ok (.aload_n 0, 1) := dk_42 (dk_at dksX0_settles_0 15 rfl rfl)
theorem dX0_settles_16 : decode cX0_settles 16 = .ok (.getfield 117, 3) := dk_180 0 117 (dk_at dksX0_settles_0 16 rfl rfl)
theorem dX0_settles_19 : decode cX0_settles 19 = .ok (.iconst 0, 1) := dk_3 (dk_at dksX0_settles_0 19 rfl rfl)
theorem dX0_settles_20 : decode cX0_settles 20 = .ok (.invokevirtual 369, 3) := dk_182 1 113 (dk_at dksX0_settles_0 20 rfl rfl)
theorem dX0_settles_23 : decode cX0_settles 23 = .ok (.ireturn, 1) := dk_172 (dk_at dksX0_settles_0 23 rfl rfl)
abbrev cX0_because : ByteArray := prog_1_method_27_code
def yX0_because : MethodName := ⟨RX0, "because", "(II)I"⟩
def dkwX0_because_1 : List UInt8 := [182, 1, 109, 5, 160, 0, 8, 16, 253, 167, 0, 11, 42, 180, 0, 117, 4, 182, 1, 113, 172]
abbrev dktX0_because_1 : List UInt8 := dkwX0_because_1 ++ []
def dkwX0_because_0 : List UInt8 := [42, 27, 28, 182, 1, 103, 62, 29, 156, 0, 5, 29, 172, 42, 180, 0, 117, 42, 180, 0, 117, 180, 1, 106]
abbrev dktX0_because_0 : List UInt8 := dkwX0_because_0 ++ dktX0_because_1
theorem dksX0_because_0 : cX0_because.data.toList.drop 0 = dktX0_because_0 := by decide +kernel
theorem dksX0_because_1 : cX0_because.data.toList.drop 24 = dktX0_because_1 := dk_seg dksX0_because_0 24 rfl rfl
theorem dX0_because_0 : decode cX0_because 0 = .ok (.aload_n 0, 1) := dk_42 (dk_at dksX0_because_0 0 rfl rfl)
theorem dX0_because_1 : decode cX0_because 1 = .ok (.iload_n 1, 1) := dk_27 (dk_at dksX0_because_0 1 rfl rfl)
theorem dX0_because_2 : decode cX0_because 2 = .ok (.iload_n 2, 1) := dk_28 (dk_at dksX0_because_0 2 rfl rfl)
theorem dX0_because_3 : decode cX0_because 3 = .ok (.invokevirtual 359, 3) := dk_182 1 103 (dk_at dksX0_because_0 3 rfl rfl)
theorem dX0_because_6 : decode cX0_because 6 = .ok (.istore_n 3, 1) := dk_62 (dk_at dksX0_because_0 6 rfl rfl)
theorem dX0_because_7 : decode cX0_because 7 = .ok (.iload_n 3, 1) := dk_29 (dk_at dksX0_because_0 7 rfl rfl)
theorem dX0_because_8 : decode cX0_because 8 = .ok (.ifCond .ge 5, 3) := dk_156 0 5 (dk_at dksX0_because_0 8 rfl rfl)
theorem dX0_because_11 : decode cX0_because 11 = .ok (.iload_n 3, 1) := dk_29 (dk_at dksX0_because_0 11 rfl rfl)
theorem dX0_because_12 : decode cX0_because 12 = .ok (.ireturn, 1) := dk_172 (dk_at dksX0_because_0 12 rfl rfl)
theorem dX0_because_13 : decode cX0_because 13 = .ok (.aload_n 0, 1) := dk_42 (dk_at dksX0_because_0 13 rfl rfl)
theorem dX0_because_14 : decode cX0_because 14 = .ok (.getfield 117, 3) := dk_180 0 117 (dk_at dksX0_because_0 14 rfl rfl)
theorem dX0_because_17 : decode cX0_because 17 = .ok (.aload_n 0, 1) := dk_42 (dk_at dksX0_because_0 17 rfl rfl)
theorem dX0_because_18 : decode cX0_because 18 = .ok (.getfield 117, 3) := dk_180 0 117 (dk_at dksX0_because_0 18 rfl rfl)
theorem dX0_because_21 : decode cX0_because 21 = .ok (.getfield 362, 3) := dk_180 1 106 (dk_at dksX0_because_0 21 rfl rfl)
theorem dX0_because_24 : decode cX0_because 24 = .ok (.invokevirtual 365, 3) := dk_182 1 109 (dk_at dksX0_because_1 0 rfl rfl)
theorem dX0_because_27 : decode cX0_because 27 = .ok (.iconst 2, 1) := dk_5 (dk_at dksX0_because_1 3 rfl rfl)
theorem dX0_because_28 : decode cX0_because 28 = .ok (.if_icmp .ne 8, 3) := dk_160 0 8 (dk_at dksX0_because_1 4 rfl rfl)
theorem dX0_because_31 : decode cX0_because 31 = .ok (.bipush (-3), 2) := dk_16 253 (dk_at dksX0_because_1 7 rfl rfl)
theorem dX0_because_33 : decode cX0_because 33 = .ok (.goto 11, 3) := dk_167 0 11 (dk_at dksX0_because_1 9 rfl rfl)
theorem dX0_because_36 : decode cX0_because 36 = .ok (.aload_n 0, 1) := dk_42 (dk_at dksX0_because_1 12 rfl rfl)
theorem dX0_because_37 : decode cX0_because 37 = .ok (.getfield 117, 3) := dk_180 0 117 (dk_at dksX0_because_1 13 rfl rfl)
theorem dX0_because_40 : decode cX0_because 40 = .ok (.iconst 1, 1) := dk_4 (dk_at dksX0_because_1 16 rfl rfl)
theorem dX0_because_41 : decode cX0_because 41 = .ok (.invokevirtual 369, 3) := dk_182 1 113 (dk_at dksX0_because_1 17 rfl rfl)
theorem dX0_because_44 : decode cX0_because 44 = .ok (.ireturn, 1) := dk_172 (dk_at dksX0_because_1 20 rfl rfl)
abbrev cX0_decider : ByteArray := prog_1_method_28_code
def yX0_decider : MethodName := ⟨RX0, "decider", "(II)I"⟩
def dkwX0_decider_4 : List UInt8 := [54, 5, 132, 6, 1, 167, 255, 212, 25, 4, 180, 1, 125, 21, 5, 51, 172]
abbrev dktX0_decider_4 : List UInt8 := dkwX0_decider_4 ++ []
def dkwX0_decider_3 : List UInt8 := [21, 5, 42, 180, 0, 117, 180, 1, 120, 21, 6, 46, 42, 180, 0, 117, 180, 1, 122, 21, 6, 46, 104, 96]
abbrev dktX0_decider_3 : List UInt8 := dkwX0_decider_3 ++ dktX0_decider_4
def dkwX0_decider_2 : List UInt8 := [16, 253, 172, 3, 54, 5, 3, 54, 6, 21, 6, 25, 4, 180, 0, 240, 185, 0, 201, 1, 0, 162, 0, 35]
abbrev dktX0_decider_2 : List UInt8 := dkwX0_decider_2 ++ dktX0_decider_3
def dkwX0_decider_1 : List UInt8 := [180, 0, 117, 180, 1, 106, 4, 25, 4, 180, 0, 240, 185, 0, 201, 1, 0, 120, 4, 100, 159, 0, 6]
abbrev dktX0_decider_1 : List UInt8 := dkwX0_decider_1 ++ dktX0_decider_2
def dkwX0_decider_0 : List UInt8 := [42, 27, 28, 182, 1, 103, 62, 29, 156, 0, 5, 29, 172, 42, 180, 0, 117, 180, 1, 117, 58, 4, 42]
abbrev dktX0_decider_0 : List UInt8 := dkwX0_decider_0 ++ dktX0_decider_1
theorem dksX0_decider_0 : cX0_decider.data.toList.drop 0 = dktX0_decider_0 := by decide +kernel
theorem dksX0_decider_1 : cX0_decider.data.toList.drop 23 = dktX0_decider_1 := dk_seg dksX0_decider_0 23 rfl rfl
theorem dksX0_decider_2 : cX0_decider.data.toList.drop 46 = dktX0_decider_2 := dk_seg dksX0_decider_1 23 rfl rfl
theorem dksX0_decider_3 : cX0_decider.data.toList.drop 70 = dktX0_decider_3 := dk_seg dksX0_decider_2 24 rfl rfl
theorem dksX0_decider_4 : cX0_decider.data.toList.drop 94 = dktX0_decider_4 := dk_seg dksX0_decider_3 24 rfl rfl
theorem dX0_decider_0 : decode cX0_decider 0 = .ok (.aload_n 0, 1) := dk_42 (dk_at dksX0_decider_0 0 rfl rfl)
theorem dX0_decider_1 : decode cX0_decider 1 = .ok (.iload_n 1, 1) := dk_27 (dk_at dksX0_decider_0 1 rfl rfl)
theorem dX0_decider_2 : decode cX0_decider 2 = .ok (.iload_n 2, 1) := dk_28 (dk_at dksX0_decider_0 2 rfl rfl)
theorem dX0_decider_3 : decode cX0_decider 3 = .ok (.invokevirtual 359, 3) := dk_182 1 103 (dk_at dksX0_decider_0 3 rfl rfl)
theorem dX0_decider_6 : decode cX0_decider 6 = .ok (.istore_n 3, 1) := dk_62 (dk_at dksX0_decider_0 6 rfl rfl)
theorem dX0_decider_7 : decode cX0_decider 7 = .ok (.iload_n 3, 1) := dk_29 (dk_at dksX0_decider_0 7 rfl rfl)
theorem dX0_decider_8 : decode cX0_decider 8 = .ok (.ifCond .ge 5, 3) := dk_156 0 5 (dk_at dksX0_decider_0 8 rfl rfl)
theorem dX0_decider_11 : decode cX0_decider 11 = .ok (.iload_n 3, 1) := dk_29 (dk_at dksX0_decider_0 11 rfl rfl)
theorem dX0_decider_12 : decode cX0_decider 12 = .ok (.ireturn, 1) := dk_172 (dk_at dksX0_decider_0 12 rfl rfl)
theorem dX0_decider_13 : decode cX0_decider 13 = .ok (.aload_n 0, 1) := dk_42 (dk_at dksX0_decider_0 13 rfl rfl)
theorem dX0_decider_14 : decode cX0_decider 14 = .ok (.getfield 117, 3) := dk_180 0 117 (dk_at dksX0_decider_0 14 rfl rfl)
theorem dX0_decider_17 : decode cX0_decider 17 = .ok (.getfield 373, 3) := dk_180 1 117 (dk_at dksX0_decider_0 17 rfl rfl)
theorem dX0_decider_20 : decode cX0_decider 20 = .ok (.astore 4, 2) := dk_58 4 (dk_at dksX0_decider_0 20 rfl rfl)
theorem dX0_decider_22 : decode cX0_decider 22 = .ok (.aload_n 0, 1) := dk_42 (dk_at dksX0_decider_0 22 rfl rfl)
theorem dX0_decider_23 : decode cX0_decider 23 = .ok (.getfield 117, 3) := dk_180 0 117 (dk_at dksX0_decider_1 0 rfl rfl)
theorem dX0_decider_26 : decode cX0_decider 26 = .ok (.getfield 362, 3) := dk_180 1 106 (dk_at dksX0_decider_1 3 rfl rfl)
theorem dX0_decider_29 : decode cX0_decider 29 = .ok (.iconst 1, 1) := dk_4 (dk_at dksX0_decider_1 6 rfl rfl)
theorem dX0_decider_30 : decode cX0_decider 30 = .ok (.aload 4, 2) := dk_25 4 (dk_at dksX0_decider_1 7 rfl rfl)
theorem dX0_decider_32 : decode cX0_decider 32 = .ok (.getfield 240, 3) := dk_180 0 240 (dk_at dksX0_decider_1 9 rfl rfl)
theorem dX0_decider_35 : decode cX0_decider 35 = .ok (.invokeinterface 201 1, 5) := by decide +kernel
theorem dX0_decider_40 : decode cX0_decider 40 = .ok (.ishl, 1) := dk_120 (dk_at dksX0_decider_1 17 rfl rfl)
theorem dX0_decider_41 : decode cX0_decider 41 = .ok (.iconst 1, 1) := dk_4 (dk_at dksX0_decider_1 18 rfl rfl)
theorem dX0_decider_42 : decode cX0_decider 42 = .ok (.isub, 1) := dk_100 (dk_at dksX0_decider_1 19 rfl rfl)
theorem dX0_decider_43 : decode cX0_decider 43 = .ok (.if_icmp .eq 6, 3) := dk_159 0 6 (dk_at dksX0_decider_1 20 rfl rfl)
theorem dX0_decider_46 : decode cX0_decider 46 = .ok (.bipush (-3), 2) := dk_16 253 (dk_at dksX0_decider_2 0 rfl rfl)
theorem dX0_decider_48 : decode cX0_decider 48 = .ok (.ireturn, 1) := dk_172 (dk_at dksX0_decider_2 2 rfl rfl)
theorem dX0_decider_49 : decode cX0_decider 49 = .ok (.iconst 0, 1) := dk_3 (dk_at dksX0_decider_2 3 rfl rfl)
theorem dX0_decider_50 : decode cX0_decider 50 = .ok (.istore 5, 2) := dk_54 5 (dk_at dksX0_decider_2 4 rfl rfl)
theorem dX0_decider_52 : decode cX0_decider 52 = .ok (.iconst 0, 1) := dk_3 (dk_at dksX0_decider_2 6 rfl rfl)
theorem dX0_decider_53 : decode cX0_decider 53 = .ok (.istore 6, 2) := dk_54 6 (dk_at dksX0_decider_2 7 rfl rfl)
theorem dX0_decider_55 : decode cX0_decider 55 = .ok (.iload 6, 2) := dk_21 6 (dk_at dksX0_decider_2 9 rfl rfl)
theorem dX0_decider_57 : decode cX0_decider 57 = .ok (.aload 4, 2) := dk_25 4 (dk_at dksX0_decider_2 11 rfl rfl)
theorem dX0_decider_59 : decode cX0_decider 59 = .ok (.getfield 240, 3) := dk_180 0 240 (dk_at dksX0_decider_2 13 rfl rfl)
theorem dX0_decider_62 : decode cX0_decider 62 = .ok (.invokeinterface 201 1, 5) := by decide +kernel
theorem dX0_decider_67 : decode cX0_decider 67 = .ok (.if_icmp .ge 35, 3) := dk_162 0 35 (dk_at dksX0_decider_2 21 rfl rfl)
theorem dX0_decider_70 : decode cX0_decider 70 = .ok (.iload 5, 2) := dk_21 5 (dk_at dksX0_decider_3 0 rfl rfl)
theorem dX0_decider_72 : decode cX0_decider 72 = .ok (.aload_n 0, 1) := dk_42 (dk_at dksX0_decider_3 2 rfl rfl)
theorem dX0_decider_73 : decode cX0_decider 73 = .ok (.getfield 117, 3) := dk_180 0 117 (dk_at dksX0_decider_3 3 rfl rfl)
theorem dX0_decider_76 : decode cX0_decider 76 = .ok (.getfield 376, 3) := dk_180 1 120 (dk_at dksX0_decider_3 6 rfl rfl)
theorem dX0_decider_79 : decode cX0_decider 79 = .ok (.iload 6, 2) := dk_21 6 (dk_at dksX0_decider_3 9 rfl rfl)
theorem dX0_decider_81 : decode cX0_decider 81 = .ok (.iaload, 1) := dk_46 (dk_at dksX0_decider_3 11 rfl rfl)
theorem dX0_decider_82 : decode cX0_decider 82 = .ok (.aload_n 0, 1) := dk_42 (dk_at dksX0_decider_3 12 rfl rfl)
theorem dX0_decider_83 : decode cX0_decider 83 = .ok (.getfield 117, 3) := dk_180 0 117 (dk_at dksX0_decider_3 13 rfl rfl)
theorem dX0_decider_86 : decode cX0_decider 86 = .ok (.getfield 378, 3) := dk_180 1 122 (dk_at dksX0_decider_3 16 rfl rfl)
theorem dX0_decider_89 : decode cX0_decider 89 = .ok (.iload 6, 2) := dk_21 6 (dk_at dksX0_decider_3 19 rfl rfl)
theorem dX0_decider_91 : decode cX0_decider 91 = .ok (.iaload, 1) := dk_46 (dk_at dksX0_decider_3 21 rfl rfl)
theorem dX0_decider_92 : decode cX0_decider 92 = .ok (.imul, 1) := dk_104 (dk_at dksX0_decider_3 22 rfl rfl)
theorem dX0_decider_93 : decode cX0_decider 93 = .ok (.iadd, 1) := dk_96 (dk_at dksX0_decider_3 23 rfl rfl)
theorem dX0_decider_94 : decode cX0_decider 94 = .ok (.istore 5, 2) := dk_54 5 (dk_at dksX0_decider_4 0 rfl rfl)
theorem dX0_decider_96 : decode cX0_decider 96 = .ok (.iinc 6 1, 3) := dk_132 6 1 (dk_at dksX0_decider_4 2 rfl rfl)
theorem dX0_decider_99 : decode cX0_decider 99 = .ok (.goto (-44), 3) := dk_167 255 212 (dk_at dksX0_decider_4 5 rfl rfl)
theorem dX0_decider_102 : decode cX0_decider 102 = .ok (.aload 4, 2) := dk_25 4 (dk_at dksX0_decider_4 8 rfl rfl)
theorem dX0_decider_104 : decode cX0_decider 104 = .ok (.getfield 381, 3) := dk_180 1 125 (dk_at dksX0_decider_4 10 rfl rfl)
theorem dX0_decider_107 : decode cX0_decider 107 = .ok (.iload 5, 2) := dk_21 5 (dk_at dksX0_decider_4 13 rfl rfl)
theorem dX0_decider_109 : decode cX0_decider 109 = .ok (.baload, 1) := dk_51 (dk_at dksX0_decider_4 15 rfl rfl)
theorem dX0_decider_110 : decode cX0_decider 110 = .ok (.ireturn, 1) := dk_172 (dk_at dksX0_decider_4 16 rfl rfl)
abbrev cX0_ways : ByteArray := prog_1_method_29_code
def yX0_ways : MethodName := ⟨RX0, "ways", "(III)I"⟩
def dkwX0_ways_2 : List UInt8 := [182, 1, 128, 42, 180, 0, 117, 180, 1, 132, 29, 46, 172]
abbrev dktX0_ways_2 : List UInt8 := dkwX0_ways_2 ++ []
def dkwX0_ways_1 : List UInt8 := [164, 0, 6, 16, 254, 172, 42, 27, 28, 182, 1, 103, 87, 42, 180, 0, 117, 42, 180, 0, 117, 180, 1, 106]
abbrev dktX0_ways_1 : List UInt8 := dkwX0_ways_1 ++ dktX0_ways_2
def dkwX0_ways_0 : List UInt8 := [42, 27, 182, 1, 73, 154, 0, 5, 2, 172, 28, 184, 1, 87, 153, 0, 12, 29, 155, 0, 8, 29, 4]
abbrev dktX0_ways_0 : List UInt8 := dkwX0_ways_0 ++ dktX0_ways_1
theorem dksX0_ways_0 : cX0_ways.data.toList.drop 0 = dktX0_ways_0 := by decide +kernel
theorem dksX0_ways_1 : cX0_ways.data.toList.drop 23 = dktX0_ways_1 := dk_seg dksX0_ways_0 23 rfl rfl
theorem dksX0_ways_2 : cX0_ways.data.toList.drop 47 = dktX0_ways_2 := dk_seg dksX0_ways_1 24 rfl rfl
theorem dX0_ways_0 : decode cX0_ways 0 = .ok (.aload_n 0, 1) := dk_42 (dk_at dksX0_ways_0 0 rfl rfl)
theorem dX0_ways_1 : decode cX0_ways 1 = .ok (.iload_n 1, 1) := dk_27 (dk_at dksX0_ways_0 1 rfl rfl)
theorem dX0_ways_2 : decode cX0_ways 2 = .ok (.invokevirtual 329, 3) := dk_182 1 73 (dk_at dksX0_ways_0 2 rfl rfl)
theorem dX0_ways_5 : decode cX0_ways 5 = .ok (.ifCond .ne 5, 3) := dk_154 0 5 (dk_at dksX0_ways_0 5 rfl rfl)
theorem dX0_ways_8 : decode cX0_ways 8 = .ok (.iconst (-1), 1) := dk_2 (dk_at dksX0_ways_0 8 rfl rfl)
theorem dX0_ways_9 : decode cX0_ways 9 = .ok (.ireturn, 1) := dk_172 (dk_at dksX0_ways_0 9 rfl rfl)
theorem dX0_ways_10 : decode cX0_ways 10 = .ok (.iload_n 2, 1) := dk_28 (dk_at dksX0_ways_0 10 rfl rfl)
theorem dX0_ways_11 : decode cX0_ways 11 = .ok (.invokestatic 343, 3) := dk_184 1 87 (dk_at dksX0_ways_0 11 rfl rfl)
theorem dX0_ways_14 : decode cX0_ways 14 = .ok (.ifCond .eq 12, 3) := dk_153 0 12 (dk_at dksX0_ways_0 14 rfl rfl)
theorem dX0_ways_17 : decode cX0_ways 17 = .ok (.iload_n 3, 1) := dk_29 (dk_at dksX0_ways_0 17 rfl rfl)
theorem dX0_ways_18 : decode cX0_ways 18 = .ok (.ifCond .lt 8, 3) := dk_155 0 8 (dk_at dksX0_ways_0 18 rfl rfl)
theorem dX0_ways_21 : decode cX0_ways 21 = .ok (.iload_n 3, 1) := dk_29 (dk_at dksX0_ways_0 21 rfl rfl)
theorem dX0_ways_22 : decode cX0_ways 22 = .ok (.iconst 1, 1) := dk_4 (dk_at dksX0_ways_0 22 rfl rfl)
theorem dX0_ways_23 : decode cX0_ways 23 = .ok (.if_icmp .le 6, 3) := dk_164 0 6 (dk_at dksX0_ways_1 0 rfl rfl)
theorem dX0_ways_26 : decode cX0_ways 26 = .ok (.bipush (-2), 2) := dk_16 254 (dk_at dksX0_ways_1 3 rfl rfl)
theorem dX0_ways_28 : decode cX0_ways 28 = .ok (.ireturn, 1) := dk_172 (dk_at dksX0_ways_1 5 rfl rfl)
theorem dX0_ways_29 : decode cX0_ways 29 = .ok (.aload_n 0, 1) := dk_42 (dk_at dksX0_ways_1 6 rfl rfl)
theorem dX0_ways_30 : decode cX0_ways 30 = .ok (.iload_n 1, 1) := dk_27 (dk_at dksX0_ways_1 7 rfl rfl)
theorem dX0_ways_31 : decode cX0_ways 31 = .ok (.iload_n 2, 1) := dk_28 (dk_at dksX0_ways_1 8 rfl rfl)
theorem dX0_ways_32 : decode cX0_ways 32 = .ok (.invokevirtual 359, 3) := dk_182 1 103 (dk_at dksX0_ways_1 9 rfl rfl)
theorem dX0_ways_35 : decode cX0_ways 35 = .ok (.pop, 1) := dk_87 (dk_at dksX0_ways_1 12 rfl rfl)
theorem dX0_ways_36 : decode cX0_ways 36 = .ok (.aload_n 0, 1) := dk_42 (dk_at dksX0_ways_1 13 rfl rfl)
theorem dX0_ways_37 : decode cX0_ways 37 = .ok (.getfield 117, 3) := dk_180 0 117 (dk_at dksX0_ways_1 14 rfl rfl)
theorem dX0_ways_40 : decode cX0_ways 40 = .ok (.aload_n 0, 1) := dk_42 (dk_at dksX0_ways_1 17 rfl rfl)
theorem dX0_ways_41 : decode cX0_ways 41 = .ok (.getfield 117, 3) := dk_180 0 117 (dk_at dksX0_ways_1 18 rfl rfl)
theorem dX0_ways_44 : decode cX0_ways 44 = .ok (.getfield 362, 3) := dk_180 1 106 (dk_at dksX0_ways_1 21 rfl rfl)
theorem dX0_ways_47 : decode cX0_ways 47 = .ok (.invokevirtual 384, 3) := dk_182 1 128 (dk_at dksX0_ways_2 0 rfl rfl)
theorem dX0_ways_50 : decode cX0_ways 50 = .ok (.aload_n 0, 1) := dk_42 (dk_at dksX0_ways_2 3 rfl rfl)
theorem dX0_ways_51 : decode cX0_ways 51 = .ok (.getfield 117, 3) := dk_180 0 117 (dk_at dksX0_ways_2 4 rfl rfl)
theorem dX0_ways_54 : decode cX0_ways 54 = .ok (.getfield 388, 3) := dk_180 1 132 (dk_at dksX0_ways_2 7 rfl rfl)
theorem dX0_ways_57 : decode cX0_ways 57 = .ok (.iload_n 3, 1) := dk_29 (dk_at dksX0_ways_2 10 rfl rfl)
theorem dX0_ways_58 : decode cX0_ways 58 = .ok (.iaload, 1) := dk_46 (dk_at dksX0_ways_2 11 rfl rfl)
theorem dX0_ways_59 : decode cX0_ways 59 = .ok (.ireturn, 1) := dk_172 (dk_at dksX0_ways_2 12 rfl rfl)
abbrev cX0_price : ByteArray := prog_1_method_31_code
def yX0_price : MethodName := ⟨RX0, "price", "(II)I"⟩
def dkwX0_price_11 : List UInt8 := [55, 5, 22, 5, 20, 1, 152, 148, 158, 0, 8, 16, 252, 167, 0, 6, 22, 5, 136, 172]
abbrev dktX0_price_11 : List UInt8 := dkwX0_price_11 ++ []
def dkwX0_price_10 : List UInt8 := [180, 1, 145, 133, 22, 7, 105, 97, 55, 5, 132, 9, 1, 167, 255, 48, 22, 5, 22, 7, 184, 1, 148]
abbrev dktX0_price_10 : List UInt8 := dkwX0_price_10 ++ dktX0_price_11
def dkwX0_price_9 : List UInt8 := [167, 0, 32, 25, 10, 180, 1, 144, 4, 159, 0, 23, 21, 11, 4, 160, 0, 17, 22, 5, 25, 10]
abbrev dktX0_price_9 : List UInt8 := dkwX0_price_9 ++ dktX0_price_10
def dkwX0_price_8 : List UInt8 := [160, 0, 25, 22, 5, 25, 10, 180, 1, 145, 133, 105, 55, 5, 22, 7, 20, 1, 159, 105, 55, 7]
abbrev dktX0_price_8 : List UInt8 := dkwX0_price_8 ++ dktX0_price_9
def dkwX0_price_7 : List UInt8 := [22, 7, 105, 184, 1, 154, 55, 5, 167, 0, 69, 25, 10, 180, 1, 144, 4, 160, 0, 31, 21, 11, 4]
abbrev dktX0_price_7 : List UInt8 := dkwX0_price_7 ++ dktX0_price_8
def dkwX0_price_6 : List UInt8 := [158, 0, 100, 16, 252, 172, 25, 10, 180, 1, 144, 7, 160, 0, 22, 22, 5, 25, 10, 180, 1, 145, 133]
abbrev dktX0_price_6 : List UInt8 := dkwX0_price_6 ++ dktX0_price_7
def dkwX0_price_5 : List UInt8 := [22, 7, 105, 184, 1, 148, 25, 10, 180, 1, 145, 133, 105, 55, 5, 10, 55, 7, 22, 5, 20, 1, 152, 148]
abbrev dktX0_price_5 : List UInt8 := dkwX0_price_5 ++ dktX0_price_6
def dkwX0_price_4 : List UInt8 := [16, 156, 21, 9, 100, 172, 25, 10, 180, 1, 144, 6, 160, 0, 41, 22, 5, 25, 10, 180, 1, 145, 133]
abbrev dktX0_price_4 : List UInt8 := dkwX0_price_4 ++ dktX0_price_5
def dkwX0_price_3 : List UInt8 := [167, 0, 15, 42, 180, 0, 117, 25, 10, 180, 1, 137, 182, 1, 140, 54, 11, 21, 11, 5, 160, 0, 9]
abbrev dktX0_price_3 : List UInt8 := dkwX0_price_3 ++ dktX0_price_4
def dkwX0_price_2 : List UInt8 := [25, 4, 21, 9, 185, 0, 221, 2, 0, 192, 1, 135, 58, 10, 25, 10, 180, 1, 137, 199, 0, 7, 4]
abbrev dktX0_price_2 : List UInt8 := dkwX0_price_2 ++ dktX0_price_3
def dkwX0_price_1 : List UInt8 := [58, 4, 9, 55, 5, 10, 55, 7, 3, 54, 9, 21, 9, 25, 4, 185, 0, 201, 1, 0, 162, 0, 202]
abbrev dktX0_price_1 : List UInt8 := dkwX0_price_1 ++ dktX0_price_2
def dkwX0_price_0 : List UInt8 := [42, 27, 28, 182, 1, 103, 62, 29, 156, 0, 5, 29, 172, 42, 180, 0, 117, 180, 1, 117, 180, 0, 246]
abbrev dktX0_price_0 : List UInt8 := dkwX0_price_0 ++ dktX0_price_1
theorem dksX0_price_0 : cX0_price.data.toList.drop 0 = dktX0_price_0 := by decide +kernel
theorem dksX0_price_1 : cX0_price.data.toList.drop 23 = dktX0_price_1 := dk_seg dksX0_price_0 23 rfl rfl
theorem dksX0_price_2 : cX0_price.data.toList.drop 46 = dktX0_price_2 := dk_seg dksX0_price_1 23 rfl rfl
theorem dksX0_price_3 : cX0_price.data.toList.drop 69 = dktX0_price_3 := dk_seg dksX0_price_2 23 rfl rfl
theorem dksX0_price_4 : cX0_price.data.toList.drop 92 = dktX0_price_4 := dk_seg dksX0_price_3 23 rfl rfl
theorem dksX0_price_5 : cX0_price.data.toList.drop 115 = dktX0_price_5 := dk_seg dksX0_price_4 23 rfl rfl
theorem dksX0_price_6 : cX0_price.data.toList.drop 139 = dktX0_price_6 := dk_seg dksX0_price_5 24 rfl rfl
theorem dksX0_price_7 : cX0_price.data.toList.drop 162 = dktX0_price_7 := dk_seg dksX0_price_6 23 rfl rfl
theorem dksX0_price_8 : cX0_price.data.toList.drop 185 = dktX0_price_8 := dk_seg dksX0_price_7 23 rfl rfl
theorem dksX0_price_9 : cX0_price.data.toList.drop 207 = dktX0_price_9 := dk_seg dksX0_price_8 22 rfl rfl
theorem dksX0_price_10 : cX0_price.data.toList.drop 229 = dktX0_price_10 := dk_seg dksX0_price_9 22 rfl rfl
theorem dksX0_price_11 : cX0_price.data.toList.drop 252 = dktX0_price_11 := dk_seg dksX0_price_10 23 rfl rfl
theorem dX0_price_0 : decode cX0_price 0 = .ok (.aload_n 0, 1) := dk_42 (dk_at dksX0_price_0 0 rfl rfl)
theorem dX0_price_1 : decode cX0_price 1 = .ok (.iload_n 1, 1) := dk_27 (dk_at dksX0_price_0 1 rfl rfl)
theorem dX0_price_2 : decode cX0_price 2 = .ok (.iload_n 2, 1) := dk_28 (dk_at dksX0_price_0 2 rfl rfl)
theorem dX0_price_3 : decode cX0_price 3 = .ok (.invokevirtual 359, 3) := dk_182 1 103 (dk_at dksX0_price_0 3 rfl rfl)
theorem dX0_price_6 : decode cX0_price 6 = .ok (.istore_n 3, 1) := dk_62 (dk_at dksX0_price_0 6 rfl rfl)
theorem dX0_price_7 : decode cX0_price 7 = .ok (.iload_n 3, 1) := dk_29 (dk_at dksX0_price_0 7 rfl rfl)
theorem dX0_price_8 : decode cX0_price 8 = .ok (.ifCond .ge 5, 3) := dk_156 0 5 (dk_at dksX0_price_0 8 rfl rfl)
theorem dX0_price_11 : decode cX0_price 11 = .ok (.iload_n 3, 1) := dk_29 (dk_at dksX0_price_0 11 rfl rfl)
theorem dX0_price_12 : decode cX0_price 12 = .ok (.ireturn, 1) := dk_172 (dk_at dksX0_price_0 12 rfl rfl)
theorem dX0_price_13 : decode cX0_price 13 = .ok (.aload_n 0, 1) := dk_42 (dk_at dksX0_price_0 13 rfl rfl)
theorem dX0_price_14 : decode cX0_price 14 = .ok (.getfield 117, 3) := dk_180 0 117 (dk_at dksX0_price_0 14 rfl rfl)
theorem dX0_price_17 : decode cX0_price 17 = .ok (.getfield 373, 3) := dk_180 1 117 (dk_at dksX0_price_0 17 rfl rfl)
theorem dX0_price_20 : decode cX0_price 20 = .ok (.getfield 246, 3) := dk_180 0 246 (dk_at dksX0_price_0 20 rfl rfl)
theorem dX0_price_23 : decode cX0_price 23 = .ok (.astore 4, 2) := dk_58 4 (dk_at dksX0_price_1 0 rfl rfl)
theorem dX0_price_25 : decode cX0_price 25 = .ok (.lconst 0, 1) := dk_9 (dk_at dksX0_price_1 2 rfl rfl)
theorem dX0_price_26 : decode cX0_price 26 = .ok (.lstore 5, 2) := dk_55 5 (dk_at dksX0_price_1 3 rfl rfl)
theorem dX0_price_28 : decode cX0_price 28 = .ok (.lconst 1, 1) := dk_10 (dk_at dksX0_price_1 5 rfl rfl)
theorem dX0_price_29 : decode cX0_price 29 = .ok (.lstore 7, 2) := dk_55 7 (dk_at dksX0_price_1 6 rfl rfl)
theorem dX0_price_31 : decode cX0_price 31 = .ok (.iconst 0, 1) := dk_3 (dk_at dksX0_price_1 8 rfl rfl)
theorem dX0_price_32 : decode cX0_price 32 = .ok (.istore 9, 2) := dk_54 9 (dk_at dksX0_price_1 9 rfl rfl)
theorem dX0_price_34 : decode cX0_price 34 = .ok (.iload 9, 2) := dk_21 9 (dk_at dksX0_price_1 11 rfl rfl)
theorem dX0_price_36 : decode cX0_price 36 = .ok (.aload 4, 2) := dk_25 4 (dk_at dksX0_price_1 13 rfl rfl)
theorem dX0_price_38 : decode cX0_price 38 = .ok (.invokeinterface 201 1, 5) := by decide +kernel
theorem dX0_price_43 : decode cX0_price 43 = .ok (.if_icmp .ge 202, 3) := dk_162 0 202 (dk_at dksX0_price_1 20 rfl rfl)
theorem dX0_price_46 : decode cX0_price 46 = .ok (.aload 4, 2) := dk_25 4 (dk_at dksX0_price_2 0 rfl rfl)
theorem dX0_price_48 : decode cX0_price 48 = .ok (.iload 9, 2) := dk_21 9 (dk_at dksX0_price_2 2 rfl rfl)
theorem dX0_price_50 : decode cX0_price 50 = .ok (.invokeinterface 221 2, 5) := by decide +kernel
theorem dX0_price_55 : decode cX0_price 55 = .ok (.checkcast 391, 3) := dk_192 1 135 (dk_at dksX0_price_2 9 rfl rfl)
theorem dX0_price_58 : decode cX0_price 58 = .ok (.astore 10, 2) := dk_58 10 (dk_at dksX0_price_2 12 rfl rfl)
theorem dX0_price_60 : decode cX0_price 60 = .ok (.aload 10, 2) := dk_25 10 (dk_at dksX0_price_2 14 rfl rfl)
theorem dX0_price_62 : decode cX0_price 62 = .ok (.getfield 393, 3) := dk_180 1 137 (dk_at dksX0_price_2 16 rfl rfl)
theorem dX0_price_65 : decode cX0_price 65 = .ok (.ifnonnull 7, 3) := dk_199 0 7 (dk_at dksX0_price_2 19 rfl rfl)
theorem dX0_price_68 : decode cX0_price 68 = .ok (.iconst 1, 1) := dk_4 (dk_at dksX0_price_2 22 rfl rfl)
theorem dX0_price_69 : decode cX0_price 69 = .ok (.goto 15, 3) := dk_167 0 15 (dk_at dksX0_price_3 0 rfl rfl)
theorem dX0_price_72 : decode cX0_price 72 = .ok (.aload_n 0, 1) := dk_42 (dk_at dksX0_price_3 3 rfl rfl)
theorem dX0_price_73 : decode cX0_price 73 = .ok (.getfield 117, 3) := dk_180 0 117 (dk_at dksX0_price_3 4 rfl rfl)
theorem dX0_price_76 : decode cX0_price 76 = .ok (.aload 10, 2) := dk_25 10 (dk_at dksX0_price_3 7 rfl rfl)
theorem dX0_price_78 : decode cX0_price 78 = .ok (.getfield 393, 3) := dk_180 1 137 (dk_at dksX0_price_3 9 rfl rfl)
theorem dX0_price_81 : decode cX0_price 81 = .ok (.invokevirtual 396, 3) := dk_182 1 140 (dk_at dksX0_price_3 12 rfl rfl)
theorem dX0_price_84 : decode cX0_price 84 = .ok (.istore 11, 2) := dk_54 11 (dk_at dksX0_price_3 15 rfl rfl)
theorem dX0_price_86 : decode cX0_price 86 = .ok (.iload 11, 2) := dk_21 11 (dk_at dksX0_price_3 17 rfl rfl)
theorem dX0_price_88 : decode cX0_price 88 = .ok (.iconst 2, 1) := dk_5 (dk_at dksX0_price_3 19 rfl rfl)
theorem dX0_price_89 : decode cX0_price 89 = .ok (.if_icmp .ne 9, 3) := dk_160 0 9 (dk_at dksX0_price_3 20 rfl rfl)
theorem dX0_price_92 : decode cX0_price 92 = .ok (.bipush (-100), 2) := dk_16 156 (dk_at dksX0_price_4 0 rfl rfl)
theorem dX0_price_94 : decode cX0_price 94 = .ok (.iload 9, 2) := dk_21 9 (dk_at dksX0_price_4 2 rfl rfl)
theorem dX0_price_96 : decode cX0_price 96 = .ok (.isub, 1) := dk_100 (dk_at dksX0_price_4 4 rfl rfl)
theorem dX0_price_97 : decode cX0_price 97 = .ok (.ireturn, 1) := dk_172 (dk_at dksX0_price_4 5 rfl rfl)
theorem dX0_price_98 : decode cX0_price 98 = .ok (.aload 10, 2) := dk_25 10 (dk_at dksX0_price_4 6 rfl rfl)
theorem dX0_price_100 : decode cX0_price 100 = .ok (.getfield 400, 3) := dk_180 1 144 (dk_at dksX0_price_4 8 rfl rfl)
theorem dX0_price_103 : decode cX0_price 103 = .ok (.iconst 3, 1) := dk_6 (dk_at dksX0_price_4 11 rfl rfl)
theorem dX0_price_104 : decode cX0_price 104 = .ok (.if_icmp .ne 41, 3) := dk_160 0 41 (dk_at dksX0_price_4 12 rfl rfl)
theorem dX0_price_107 : decode cX0_price 107 = .ok (.lload 5, 2) := dk_22 5 (dk_at dksX0_price_4 15 rfl rfl)
theorem dX0_price_109 : decode cX0_price 109 = .ok (.aload 10, 2) := dk_25 10 (dk_at dksX0_price_4 17 rfl rfl)
theorem dX0_price_111 : decode cX0_price 111 = .ok (.getfield 401, 3) := dk_180 1 145 (dk_at dksX0_price_4 19 rfl rfl)
theorem dX0_price_114 : decode cX0_price 114 = .ok (.i2l, 1) := dk_133 (dk_at dksX0_price_4 22 rfl rfl)
theorem dX0_price_115 : decode cX0_price 115 = .ok (.lload 7, 2) := dk_22 7 (dk_at dksX0_price_5 0 rfl rfl)
theorem dX0_price_117 : decode cX0_price 117 = .ok (.lmul, 1) := dk_105 (dk_at dksX0_price_5 2 rfl rfl)
theorem dX0_price_118 : decode cX0_price 118 = .ok (.invokestatic 404, 3) := dk_184 1 148 (dk_at dksX0_price_5 3 rfl rfl)
theorem dX0_price_121 : decode cX0_price 121 = .ok (.aload 10, 2) := dk_25 10 (dk_at dksX0_price_5 6 rfl rfl)
theorem dX0_price_123 : decode cX0_price 123 = .ok (.getfield 401, 3) := dk_180 1 145 (dk_at dksX0_price_5 8 rfl rfl)
theorem dX0_price_126 : decode cX0_price 126 = .ok (.i2l, 1) := dk_133 (dk_at dksX0_price_5 11 rfl rfl)
theorem dX0_price_127 : decode cX0_price 127 = .ok (.lmul, 1) := dk_105 (dk_at dksX0_price_5 12 rfl rfl)
theorem dX0_price_128 : decode cX0_price 128 = .ok (.lstore 5, 2) := dk_55 5 (dk_at dksX0_price_5 13 rfl rfl)
theorem dX0_price_130 : decode cX0_price 130 = .ok (.lconst 1, 1) := dk_10 (dk_at dksX0_price_5 15 rfl rfl)
theorem dX0_price_131 : decode cX0_price 131 = .ok (.lstore 7, 2) := dk_55 7 (dk_at dksX0_price_5 16 rfl rfl)
theorem dX0_price_133 : decode cX0_price 133 = .ok (.lload 5, 2) := dk_22 5 (dk_at dksX0_price_5 18 rfl rfl)
theorem dX0_price_135 : decode cX0_price 135 = .ok (.ldc2_w 408, 3) := dk_20 1 152 (dk_at dksX0_price_5 20 rfl rfl)
theorem dX0_price_138 : decode cX0_price 138 = .ok (.lcmp, 1) := dk_148 (dk_at dksX0_price_5 23 rfl rfl)
theorem dX0_price_139 : decode cX0_price 139 = .ok (.ifCond .le 100, 3) := dk_158 0 100 (dk_at dksX0_price_6 0 rfl rfl)
theorem dX0_price_142 : decode cX0_price 142 = .ok (.bipush (-4), 2) := dk_16 252 (dk_at dksX0_price_6 3 rfl rfl)
theorem dX0_price_144 : decode cX0_price 144 = .ok (.ireturn, 1) := dk_172 (dk_at dksX0_price_6 5 rfl rfl)
theorem dX0_price_145 : decode cX0_price 145 = .ok (.aload 10, 2) := dk_25 10 (dk_at dksX0_price_6 6 rfl rfl)
theorem dX0_price_147 : decode cX0_price 147 = .ok (.getfield 400, 3) := dk_180 1 144 (dk_at dksX0_price_6 8 rfl rfl)
theorem dX0_price_150 : decode cX0_price 150 = .ok (.iconst 4, 1) := dk_7 (dk_at dksX0_price_6 11 rfl rfl)
theorem dX0_price_151 : decode cX0_price 151 = .ok (.if_icmp .ne 22, 3) := dk_160 0 22 (dk_at dksX0_price_6 12 rfl rfl)
theorem dX0_price_154 : decode cX0_price 154 = .ok (.lload 5, 2) := dk_22 5 (dk_at dksX0_price_6 15 rfl rfl)
theorem dX0_price_156 : decode cX0_price 156 = .ok (.aload 10, 2) := dk_25 10 (dk_at dksX0_price_6 17 rfl rfl)
theorem dX0_price_158 : decode cX0_price 158 = .ok (.getfield 401, 3) := dk_180 1 145 (dk_at dksX0_price_6 19 rfl rfl)
theorem dX0_price_161 : decode cX0_price 161 = .ok (.i2l, 1) := dk_133 (dk_at dksX0_price_6 22 rfl rfl)
theorem dX0_price_162 : decode cX0_price 162 = .ok (.lload 7, 2) := dk_22 7 (dk_at dksX0_price_7 0 rfl rfl)
theorem dX0_price_164 : decode cX0_price 164 = .ok (.lmul, 1) := dk_105 (dk_at dksX0_price_7 2 rfl rfl)
theorem dX0_price_165 : decode cX0_price 165 = .ok (.invokestatic 410, 3) := dk_184 1 154 (dk_at dksX0_price_7 3 rfl rfl)
theorem dX0_price_168 : decode cX0_price 168 = .ok (.lstore 5, 2) := dk_55 5 (dk_at dksX0_price_7 6 rfl rfl)
theorem dX0_price_170 : decode cX0_price 170 = .ok (.goto 69, 3) := dk_167 0 69 (dk_at dksX0_price_7 8 rfl rfl)
theorem dX0_price_173 : decode cX0_price 173 = .ok (.aload 10, 2) := dk_25 10 (dk_at dksX0_price_7 11 rfl rfl)
theorem dX0_price_175 : decode cX0_price 175 = .ok (.getfield 400, 3) := dk_180 1 144 (dk_at dksX0_price_7 13 rfl rfl)
theorem dX0_price_178 : decode cX0_price 178 = .ok (.iconst 1, 1) := dk_4 (dk_at dksX0_price_7 16 rfl rfl)
theorem dX0_price_179 : decode cX0_price 179 = .ok (.if_icmp .ne 31, 3) := dk_160 0 31 (dk_at dksX0_price_7 17 rfl rfl)
theorem dX0_price_182 : decode cX0_price 182 = .ok (.iload 11, 2) := dk_21 11 (dk_at dksX0_price_7 20 rfl rfl)
theorem dX0_price_184 : decode cX0_price 184 = .ok (.iconst 1, 1) := dk_4 (dk_at dksX0_price_7 22 rfl rfl)
theorem dX0_price_185 : decode cX0_price 185 = .ok (.if_icmp .ne 25, 3) := dk_160 0 25 (dk_at dksX0_price_8 0 rfl rfl)
theorem dX0_price_188 : decode cX0_price 188 = .ok (.lload 5, 2) := dk_22 5 (dk_at dksX0_price_8 3 rfl rfl)
theorem dX0_price_190 : decode cX0_price 190 = .ok (.aload 10, 2) := dk_25 10 (dk_at dksX0_price_8 5 rfl rfl)
theorem dX0_price_192 : decode cX0_price 192 = .ok (.getfield 401, 3) := dk_180 1 145 (dk_at dksX0_price_8 7 rfl rfl)
theorem dX0_price_195 : decode cX0_price 195 = .ok (.i2l, 1) := dk_133 (dk_at dksX0_price_8 10 rfl rfl)
theorem dX0_price_196 : decode cX0_price 196 = .ok (.lmul, 1) := dk_105 (dk_at dksX0_price_8 11 rfl rfl)
theorem dX0_price_197 : decode cX0_price 197 = .ok (.lstore 5, 2) := dk_55 5 (dk_at dksX0_price_8 12 rfl rfl)
theorem dX0_price_199 : decode cX0_price 199 = .ok (.lload 7, 2) := dk_22 7 (dk_at dksX0_price_8 14 rfl rfl)
theorem dX0_price_201 : decode cX0_price 201 = .ok (.ldc2_w 415, 3) := dk_20 1 159 (dk_at dksX0_price_8 16 rfl rfl)
theorem dX0_price_204 : decode cX0_price 204 = .ok (.lmul, 1) := dk_105 (dk_at dksX0_price_8 19 rfl rfl)
theorem dX0_price_205 : decode cX0_price 205 = .ok (.lstore 7, 2) := dk_55 7 (dk_at dksX0_price_8 20 rfl rfl)
theorem dX0_price_207 : decode cX0_price 207 = .ok (.goto 32, 3) := dk_167 0 32 (dk_at dksX0_price_9 0 rfl rfl)
theorem dX0_price_210 : decode cX0_price 210 = .ok (.aload 10, 2) := dk_25 10 (dk_at dksX0_price_9 3 rfl rfl)
theorem dX0_price_212 : decode cX0_price 212 = .ok (.getfield 400, 3) := dk_180 1 144 (dk_at dksX0_price_9 5 rfl rfl)
theorem dX0_price_215 : decode cX0_price 215 = .ok (.iconst 1, 1) := dk_4 (dk_at dksX0_price_9 8 rfl rfl)
theorem dX0_price_216 : decode cX0_price 216 = .ok (.if_icmp .eq 23, 3) := dk_159 0 23 (dk_at dksX0_price_9 9 rfl rfl)
theorem dX0_price_219 : decode cX0_price 219 = .ok (.iload 11, 2) := dk_21 11 (dk_at dksX0_price_9 12 rfl rfl)
theorem dX0_price_221 : decode cX0_price 221 = .ok (.iconst 1, 1) := dk_4 (dk_at dksX0_price_9 14 rfl rfl)
theorem dX0_price_222 : decode cX0_price 222 = .ok (.if_icmp .ne 17, 3) := dk_160 0 17 (dk_at dksX0_price_9 15 rfl rfl)
theorem dX0_price_225 : decode cX0_price 225 = .ok (.lload 5, 2) := dk_22 5 (dk_at dksX0_price_9 18 rfl rfl)
theorem dX0_price_227 : decode cX0_price 227 = .ok (.aload 10, 2) := dk_25 10 (dk_at dksX0_price_9 20 rfl rfl)
theorem dX0_price_229 : decode cX0_price 229 = .ok (.getfield 401, 3) := dk_180 1 145 (dk_at dksX0_price_10 0 rfl rfl)
theorem dX0_price_232 : decode cX0_price 232 = .ok (.i2l, 1) := dk_133 (dk_at dksX0_price_10 3 rfl rfl)
theorem dX0_price_233 : decode cX0_price 233 = .ok (.lload 7, 2) := dk_22 7 (dk_at dksX0_price_10 4 rfl rfl)
theorem dX0_price_235 : decode cX0_price 235 = .ok (.lmul, 1) := dk_105 (dk_at dksX0_price_10 6 rfl rfl)
theorem dX0_price_236 : decode cX0_price 236 = .ok (.ladd, 1) := dk_97 (dk_at dksX0_price_10 7 rfl rfl)
theorem dX0_price_237 : decode cX0_price 237 = .ok (.lstore 5, 2) := dk_55 5 (dk_at dksX0_price_10 8 rfl rfl)
theorem dX0_price_239 : decode cX0_price 239 = .ok (.iinc 9 1, 3) := dk_132 9 1 (dk_at dksX0_price_10 10 rfl rfl)
theorem dX0_price_242 : decode cX0_price 242 = .ok (.goto (-208), 3) := dk_167 255 48 (dk_at dksX0_price_10 13 rfl rfl)
theorem dX0_price_245 : decode cX0_price 245 = .ok (.lload 5, 2) := dk_22 5 (dk_at dksX0_price_10 16 rfl rfl)
theorem dX0_price_247 : decode cX0_price 247 = .ok (.lload 7, 2) := dk_22 7 (dk_at dksX0_price_10 18 rfl rfl)
theorem dX0_price_249 : decode cX0_price 249 = .ok (.invokestatic 404, 3) := dk_184 1 148 (dk_at dksX0_price_10 20 rfl rfl)
theorem dX0_price_252 : decode cX0_price 252 = .ok (.lstore 5, 2) := dk_55 5 (dk_at dksX0_price_11 0 rfl rfl)
theorem dX0_price_254 : decode cX0_price 254 = .ok (.lload 5, 2) := dk_22 5 (dk_at dksX0_price_11 2 rfl rfl)
theorem dX0_price_256 : decode cX0_price 256 = .ok (.ldc2_w 408, 3) := dk_20 1 152 (dk_at dksX0_price_11 4 rfl rfl)
theorem dX0_price_259 : decode cX0_price 259 = .ok (.lcmp, 1) := dk_148 (dk_at dksX0_price_11 7 rfl rfl)
theorem dX0_price_260 : decode cX0_price 260 = .ok (.ifCond .le 8, 3) := dk_158 0 8 (dk_at dksX0_price_11 8 rfl rfl)
theorem dX0_price_263 : decode cX0_price 263 = .ok (.bipush (-4), 2) := dk_16 252 (dk_at dksX0_price_11 11 rfl rfl)
theorem dX0_price_265 : decode cX0_price 265 = .ok (.goto 6, 3) := dk_167 0 6 (dk_at dksX0_price_11 13 rfl rfl)
theorem dX0_price_268 : decode cX0_price 268 = .ok (.lload 5, 2) := dk_22 5 (dk_at dksX0_price_11 16 rfl rfl)
theorem dX0_price_270 : decode cX0_price 270 = .ok (.l2i, 1) := dk_136 (dk_at dksX0_price_11 18 rfl rfl)
theorem dX0_price_271 : decode cX0_price 271 = .ok (.ireturn, 1) := dk_172 (dk_at dksX0_price_11 19 rfl rfl)
abbrev cX0_rounded : ByteArray := prog_1_method_30_code
def yX0_rounded : MethodName := ⟨RX0, "rounded", "(JJ)J"⟩
def dkwX0_rounded_2 : List UInt8 := [54, 8, 21, 8, 153, 0, 10, 22, 4, 10, 97, 167, 0, 5, 22, 4, 173]
abbrev dktX0_rounded_2 : List UInt8 := dkwX0_rounded_2 ++ []
def dkwX0_rounded_1 : List UInt8 := [22, 6, 105, 32, 148, 154, 0, 18, 22, 4, 20, 1, 133, 113, 10, 148, 154, 0, 7, 4, 167, 0, 4, 3]
abbrev dktX0_rounded_1 : List UInt8 := dkwX0_rounded_1 ++ dktX0_rounded_2
def dkwX0_rounded_0 : List UInt8 := [30, 32, 109, 55, 4, 30, 32, 113, 55, 6, 20, 1, 133, 22, 6, 105, 32, 148, 157, 0, 25, 20, 1, 133]
abbrev dktX0_rounded_0 : List UInt8 := dkwX0_rounded_0 ++ dktX0_rounded_1
theorem dksX0_rounded_0 : cX0_rounded.data.toList.drop 0 = dktX0_rounded_0 := by decide +kernel
theorem dksX0_rounded_1 : cX0_rounded.data.toList.drop 24 = dktX0_rounded_1 := dk_seg dksX0_rounded_0 24 rfl rfl
theorem dksX0_rounded_2 : cX0_rounded.data.toList.drop 48 = dktX0_rounded_2 := dk_seg dksX0_rounded_1 24 rfl rfl
theorem dX0_rounded_0 : decode cX0_rounded 0 = .ok (.lload_n 0, 1) := dk_30 (dk_at dksX0_rounded_0 0 rfl rfl)
theorem dX0_rounded_1 : decode cX0_rounded 1 = .ok (.lload_n 2, 1) := dk_32 (dk_at dksX0_rounded_0 1 rfl rfl)
theorem dX0_rounded_2 : decode cX0_rounded 2 = .ok (.ldiv, 1) := dk_109 (dk_at dksX0_rounded_0 2 rfl rfl)
theorem dX0_rounded_3 : decode cX0_rounded 3 = .ok (.lstore 4, 2) := dk_55 4 (dk_at dksX0_rounded_0 3 rfl rfl)
theorem dX0_rounded_5 : decode cX0_rounded 5 = .ok (.lload_n 0, 1) := dk_30 (dk_at dksX0_rounded_0 5 rfl rfl)
theorem dX0_rounded_6 : decode cX0_rounded 6 = .ok (.lload_n 2, 1) := dk_32 (dk_at dksX0_rounded_0 6 rfl rfl)
theorem dX0_rounded_7 : decode cX0_rounded 7 = .ok (.lrem, 1) := dk_113 (dk_at dksX0_rounded_0 7 rfl rfl)
theorem dX0_rounded_8 : decode cX0_rounded 8 = .ok (.lstore 6, 2) := dk_55 6 (dk_at dksX0_rounded_0 8 rfl rfl)
theorem dX0_rounded_10 : decode cX0_rounded 10 = .ok (.ldc2_w 389, 3) := dk_20 1 133 (dk_at dksX0_rounded_0 10 rfl rfl)
theorem dX0_rounded_13 : decode cX0_rounded 13 = .ok (.lload 6, 2) := dk_22 6 (dk_at dksX0_rounded_0 13 rfl rfl)
theorem dX0_rounded_15 : decode cX0_rounded 15 = .ok (.lmul, 1) := dk_105 (dk_at dksX0_rounded_0 15 rfl rfl)
theorem dX0_rounded_16 : decode cX0_rounded 16 = .ok (.lload_n 2, 1) := dk_32 (dk_at dksX0_rounded_0 16 rfl rfl)
theorem dX0_rounded_17 : decode cX0_rounded 17 = .ok (.lcmp, 1) := dk_148 (dk_at dksX0_rounded_0 17 rfl rfl)
theorem dX0_rounded_18 : decode cX0_rounded 18 = .ok (.ifCond .gt 25, 3) := dk_157 0 25 (dk_at dksX0_rounded_0 18 rfl rfl)
theorem dX0_rounded_21 : decode cX0_rounded 21 = .ok (.ldc2_w 389, 3) := dk_20 1 133 (dk_at dksX0_rounded_0 21 rfl rfl)
theorem dX0_rounded_24 : decode cX0_rounded 24 = .ok (.lload 6, 2) := dk_22 6 (dk_at dksX0_rounded_1 0 rfl rfl)
theorem dX0_rounded_26 : decode cX0_rounded 26 = .ok (.lmul, 1) := dk_105 (dk_at dksX0_rounded_1 2 rfl rfl)
theorem dX0_rounded_27 : decode cX0_rounded 27 = .ok (.lload_n 2, 1) := dk_32 (dk_at dksX0_rounded_1 3 rfl rfl)
theorem dX0_rounded_28 : decode cX0_rounded 28 = .ok (.lcmp, 1) := dk_148 (dk_at dksX0_rounded_1 4 rfl rfl)
theorem dX0_rounded_29 : decode cX0_rounded 29 = .ok (.ifCond .ne 18, 3) := dk_154 0 18 (dk_at dksX0_rounded_1 5 rfl rfl)
theorem dX0_rounded_32 : decode cX0_rounded 32 = .ok (.lload 4, 2) := dk_22 4 (dk_at dksX0_rounded_1 8 rfl rfl)
theorem dX0_rounded_34 : decode cX0_rounded 34 = .ok (.ldc2_w 389, 3) := dk_20 1 133 (dk_at dksX0_rounded_1 10 rfl rfl)
theorem dX0_rounded_37 : decode cX0_rounded 37 = .ok (.lrem, 1) := dk_113 (dk_at dksX0_rounded_1 13 rfl rfl)
theorem dX0_rounded_38 : decode cX0_rounded 38 = .ok (.lconst 1, 1) := dk_10 (dk_at dksX0_rounded_1 14 rfl rfl)
theorem dX0_rounded_39 : decode cX0_rounded 39 = .ok (.lcmp, 1) := dk_148 (dk_at dksX0_rounded_1 15 rfl rfl)
theorem dX0_rounded_40 : decode cX0_rounded 40 = .ok (.ifCond .ne 7, 3) := dk_154 0 7 (dk_at dksX0_rounded_1 16 rfl rfl)
theorem dX0_rounded_43 : decode cX0_rounded 43 = .ok (.iconst 1, 1) := dk_4 (dk_at dksX0_rounded_1 19 rfl rfl)
theorem dX0_rounded_44 : decode cX0_rounded 44 = .ok (.goto 4, 3) := dk_167 0 4 (dk_at dksX0_rounded_1 20 rfl rfl)
theorem dX0_rounded_47 : decode cX0_rounded 47 = .ok (.iconst 0, 1) := dk_3 (dk_at dksX0_rounded_1 23 rfl rfl)
theorem dX0_rounded_48 : decode cX0_rounded 48 = .ok (.istore 8, 2) := dk_54 8 (dk_at dksX0_rounded_2 0 rfl rfl)
theorem dX0_rounded_50 : decode cX0_rounded 50 = .ok (.iload 8, 2) := dk_21 8 (dk_at dksX0_rounded_2 2 rfl rfl)
theorem dX0_rounded_52 : decode cX0_rounded 52 = .ok (.ifCond .eq 10, 3) := dk_153 0 10 (dk_at dksX0_rounded_2 4 rfl rfl)
theorem dX0_rounded_55 : decode cX0_rounded 55 = .ok (.lload 4, 2) := dk_22 4 (dk_at dksX0_rounded_2 7 rfl rfl)
theorem dX0_rounded_57 : decode cX0_rounded 57 = .ok (.lconst 1, 1) := dk_10 (dk_at dksX0_rounded_2 9 rfl rfl)
theorem dX0_rounded_58 : decode cX0_rounded 58 = .ok (.ladd, 1) := dk_97 (dk_at dksX0_rounded_2 10 rfl rfl)
theorem dX0_rounded_59 : decode cX0_rounded 59 = .ok (.goto 5, 3) := dk_167 0 5 (dk_at dksX0_rounded_2 11 rfl rfl)
theorem dX0_rounded_62 : decode cX0_rounded 62 = .ok (.lload 4, 2) := dk_22 4 (dk_at dksX0_rounded_2 14 rfl rfl)
theorem dX0_rounded_64 : decode cX0_rounded 64 = .ok (.lreturn, 1) := dk_173 (dk_at dksX0_rounded_2 16 rfl rfl)
abbrev cX0_policy : ByteArray := prog_1_method_32_code
def yX0_policy : MethodName := ⟨RX0, "policy", "()I"⟩
def dkwX0_policy_1 : List UInt8 := [89, 183, 1, 163, 185, 0, 195, 2, 0, 87, 42, 180, 0, 89, 185, 0, 201, 1, 0, 172]
abbrev dktX0_policy_1 : List UInt8 := dkwX0_policy_1 ++ []
def dkwX0_policy_0 : List UInt8 := [42, 180, 0, 89, 185, 0, 201, 1, 0, 16, 12, 160, 0, 6, 16, 252, 172, 42, 180, 0, 89, 187, 1, 161]
abbrev dktX0_policy_0 : List UInt8 := dkwX0_policy_0 ++ dktX0_policy_1
theorem dksX0_policy_0 : cX0_policy.data.toList.drop 0 = dktX0_policy_0 := by decide +kernel
theorem dksX0_policy_1 : cX0_policy.data.toList.drop 24 = dktX0_policy_1 := dk_seg dksX0_policy_0 24 rfl rfl
theorem dX0_policy_0 : decode cX0_policy 0 = .ok (.aload_n 0, 1) := dk_42 (dk_at dksX0_policy_0 0 rfl rfl)
theorem dX0_policy_1 : decode cX0_policy 1 = .ok (.getfield 89, 3) := dk_180 0 89 (dk_at dksX0_policy_0 1 rfl rfl)
theorem dX0_policy_4 : decode cX0_policy 4 = .ok (.invokeinterface 201 1, 5) := by decide +kernel
theorem dX0_policy_9 : decode cX0_policy 9 = .ok (.bipush 12, 2) := dk_16 12 (dk_at dksX0_policy_0 9 rfl rfl)
theorem dX0_policy_11 : decode cX0_policy 11 = .ok (.if_icmp .ne 6, 3) := dk_160 0 6 (dk_at dksX0_policy_0 11 rfl rfl)
theorem dX0_policy_14 : decode cX0_policy 14 = .ok (.bipush (-4), 2) := dk_16 252 (dk_at dksX0_policy_0 14 rfl rfl)
theorem dX0_policy_16 : decode cX0_policy 16 = .ok (.ireturn, 1) := dk_172 (dk_at dksX0_policy_0 16 rfl rfl)
theorem dX0_policy_17 : decode cX0_policy 17 = .ok (.aload_n 0, 1) := dk_42 (dk_at dksX0_policy_0 17 rfl rfl)
theorem dX0_policy_18 : decode cX0_policy 18 = .ok (.getfield 89, 3) := dk_180 0 89 (dk_at dksX0_policy_0 18 rfl rfl)
theorem dX0_policy_21 : decode cX0_policy 21 = .ok (.new 417, 3) := dk_187 1 161 (dk_at dksX0_policy_0 21 rfl rfl)
theorem dX0_policy_24 : decode cX0_policy 24 = .ok (.dup, 1) := dk_89 (dk_at dksX0_policy_1 0 rfl rfl)
theorem dX0_policy_25 : decode cX0_policy 25 = .ok (.invokespecial 419, 3) := dk_183 1 163 (dk_at dksX0_policy_1 1 rfl rfl)
theorem dX0_policy_28 : decode cX0_policy 28 = .ok (.invokeinterface 195 2, 5) := by decide +kernel
theorem dX0_policy_33 : decode cX0_policy 33 = .ok (.pop, 1) := dk_87 (dk_at dksX0_policy_1 9 rfl rfl)
theorem dX0_policy_34 : decode cX0_policy 34 = .ok (.aload_n 0, 1) := dk_42 (dk_at dksX0_policy_1 10 rfl rfl)
theorem dX0_policy_35 : decode cX0_policy 35 = .ok (.getfield 89, 3) := dk_180 0 89 (dk_at dksX0_policy_1 11 rfl rfl)
theorem dX0_policy_38 : decode cX0_policy 38 = .ok (.invokeinterface 201 1, 5) := by decide +kernel
theorem dX0_policy_43 : decode cX0_policy 43 = .ok (.ireturn, 1) := dk_172 (dk_at dksX0_policy_1 19 rfl rfl)
abbrev cX0_change : ByteArray := prog_1_method_34_code
def yX0_change : MethodName := ⟨RX0, "change", "(IIIII)I"⟩
def dkwX0_change_7 : List UInt8 := [90, 4, 96, 181, 1, 168, 21, 5, 79, 25, 6, 180, 1, 168, 172]
abbrev dktX0_change_7 : List UInt8 := dkwX0_change_7 ++ []
def dkwX0_change_6 : List UInt8 := [25, 6, 180, 1, 175, 25, 6, 180, 1, 168, 21, 4, 79, 25, 6, 180, 1, 178, 25, 6, 89, 180, 1, 168]
abbrev dktX0_change_6 : List UInt8 := dkwX0_change_6 ++ dktX0_change_7
def dkwX0_change_5 : List UInt8 := [25, 6, 180, 1, 169, 25, 6, 180, 1, 168, 28, 79, 25, 6, 180, 1, 172, 25, 6, 180, 1, 168, 29, 79]
abbrev dktX0_change_5 : List UInt8 := dkwX0_change_5 ++ dktX0_change_6
def dkwX0_change_4 : List UInt8 := [185, 0, 221, 2, 0, 192, 1, 161, 58, 6, 25, 6, 180, 1, 168, 16, 24, 160, 0, 6, 16, 252, 172]
abbrev dktX0_change_4 : List UInt8 := dkwX0_change_4 ++ dktX0_change_5
def dkwX0_change_3 : List UInt8 := [184, 1, 87, 153, 0, 11, 21, 5, 184, 1, 87, 154, 0, 6, 16, 254, 172, 42, 180, 0, 89, 27, 4, 100]
abbrev dktX0_change_3 : List UInt8 := dkwX0_change_3 ++ dktX0_change_4
def dkwX0_change_2 : List UInt8 := [19, 1, 167, 163, 0, 33, 28, 5, 160, 0, 12, 29, 155, 0, 24, 29, 4, 163, 0, 19, 21, 4]
abbrev dktX0_change_2 : List UInt8 := dkwX0_change_2 ++ dktX0_change_3
def dkwX0_change_1 : List UInt8 := [153, 0, 13, 42, 29, 182, 0, 225, 154, 0, 5, 2, 172, 28, 4, 160, 0, 14, 29, 155, 0, 40, 29]
abbrev dktX0_change_1 : List UInt8 := dkwX0_change_1 ++ dktX0_change_2
def dkwX0_change_0 : List UInt8 := [42, 27, 182, 1, 164, 153, 0, 28, 28, 155, 0, 24, 28, 5, 163, 0, 19, 28, 154, 0, 17, 29]
abbrev dktX0_change_0 : List UInt8 := dkwX0_change_0 ++ dktX0_change_1
theorem dksX0_change_0 : cX0_change.data.toList.drop 0 = dktX0_change_0 := by decide +kernel
theorem dksX0_change_1 : cX0_change.data.toList.drop 22 = dktX0_change_1 := dk_seg dksX0_change_0 22 rfl rfl
theorem dksX0_change_2 : cX0_change.data.toList.drop 45 = dktX0_change_2 := dk_seg dksX0_change_1 23 rfl rfl
theorem dksX0_change_3 : cX0_change.data.toList.drop 67 = dktX0_change_3 := dk_seg dksX0_change_2 22 rfl rfl
theorem dksX0_change_4 : cX0_change.data.toList.drop 91 = dktX0_change_4 := dk_seg dksX0_change_3 24 rfl rfl
theorem dksX0_change_5 : cX0_change.data.toList.drop 114 = dktX0_change_5 := dk_seg dksX0_change_4 23 rfl rfl
theorem dksX0_change_6 : cX0_change.data.toList.drop 138 = dktX0_change_6 := dk_seg dksX0_change_5 24 rfl rfl
theorem dksX0_change_7 : cX0_change.data.toList.drop 162 = dktX0_change_7 := dk_seg dksX0_change_6 24 rfl rfl
theorem dX0_change_0 : decode cX0_change 0 = .ok (.aload_n 0, 1) := dk_42 (dk_at dksX0_change_0 0 rfl rfl)
theorem dX0_change_1 : decode cX0_change 1 = .ok (.iload_n 1, 1) := dk_27 (dk_at dksX0_change_0 1 rfl rfl)
theorem dX0_change_2 : decode cX0_change 2 = .ok (.invokevirtual 420, 3) := dk_182 1 164 (dk_at dksX0_change_0 2 rfl rfl)
theorem dX0_change_5 : decode cX0_change 5 = .ok (.ifCond .eq 28, 3) := dk_153 0 28 (dk_at dksX0_change_0 5 rfl rfl)
theorem dX0_change_8 : decode cX0_change 8 = .ok (.iload_n 2, 1) := dk_28 (dk_at dksX0_change_0 8 rfl rfl)
theorem dX0_change_9 : decode cX0_change 9 = .ok (.ifCond .lt 24, 3) := dk_155 0 24 (dk_at dksX0_change_0 9 rfl rfl)
theorem dX0_change_12 : decode cX0_change 12 = .ok (.iload_n 2, 1) := dk_28 (dk_at dksX0_change_0 12 rfl rfl)
theorem dX0_change_13 : decode cX0_change 13 = .ok (.iconst 2, 1) := dk_5 (dk_at dksX0_change_0 13 rfl rfl)
theorem dX0_change_14 : decode cX0_change 14 = .ok (.if_icmp .gt 19, 3) := dk_163 0 19 (dk_at dksX0_change_0 14 rfl rfl)
theorem dX0_change_17 : decode cX0_change 17 = .ok (.iload_n 2, 1) := dk_28 (dk_at dksX0_change_0 17 rfl rfl)
theorem dX0_change_18 : decode cX0_change 18 = .ok (.ifCond .ne 17, 3) := dk_154 0 17 (dk_at dksX0_change_0 18 rfl rfl)
theorem dX0_change_21 : decode cX0_change 21 = .ok (.iload_n 3, 1) := dk_29 (dk_at dksX0_change_0 21 rfl rfl)
theorem dX0_change_22 : decode cX0_change 22 = .ok (.ifCond .eq 13, 3) := dk_153 0 13 (dk_at dksX0_change_1 0 rfl rfl)
theorem dX0_change_25 : decode cX0_change 25 = .ok (.aload_n 0, 1) := dk_42 (dk_at dksX0_change_1 3 rfl rfl)
theorem dX0_change_26 : decode cX0_change 26 = .ok (.iload_n 3, 1) := dk_29 (dk_at dksX0_change_1 4 rfl rfl)
theorem dX0_change_27 : decode cX0_change 27 = .ok (.invokevirtual 225, 3) := dk_182 0 225 (dk_at dksX0_change_1 5 rfl rfl)
theorem dX0_change_30 : decode cX0_change 30 = .ok (.ifCond .ne 5, 3) := dk_154 0 5 (dk_at dksX0_change_1 8 rfl rfl)
theorem dX0_change_33 : decode cX0_change 33 = .ok (.iconst (-1), 1) := dk_2 (dk_at dksX0_change_1 11 rfl rfl)
theorem dX0_change_34 : decode cX0_change 34 = .ok (.ireturn, 1) := dk_172 (dk_at dksX0_change_1 12 rfl rfl)
theorem dX0_change_35 : decode cX0_change 35 = .ok (.iload_n 2, 1) := dk_28 (dk_at dksX0_change_1 13 rfl rfl)
theorem dX0_change_36 : decode cX0_change 36 = .ok (.iconst 1, 1) := dk_4 (dk_at dksX0_change_1 14 rfl rfl)
theorem dX0_change_37 : decode cX0_change 37 = .ok (.if_icmp .ne 14, 3) := dk_160 0 14 (dk_at dksX0_change_1 15 rfl rfl)
theorem dX0_change_40 : decode cX0_change 40 = .ok (.iload_n 3, 1) := dk_29 (dk_at dksX0_change_1 18 rfl rfl)
theorem dX0_change_41 : decode cX0_change 41 = .ok (.ifCond .lt 40, 3) := dk_155 0 40 (dk_at dksX0_change_1 19 rfl rfl)
theorem dX0_change_44 : decode cX0_change 44 = .ok (.iload_n 3, 1) := dk_29 (dk_at dksX0_change_1 22 rfl rfl)
theorem dX0_change_45 : decode cX0_change 45 = .ok (.ldc_w 423, 3) := dk_19 1 167 (dk_at dksX0_change_2 0 rfl rfl)
theorem dX0_change_48 : decode cX0_change 48 = .ok (.if_icmp .gt 33, 3) := dk_163 0 33 (dk_at dksX0_change_2 3 rfl rfl)
theorem dX0_change_51 : decode cX0_change 51 = .ok (.iload_n 2, 1) := dk_28 (dk_at dksX0_change_2 6 rfl rfl)
theorem dX0_change_52 : decode cX0_change 52 = .ok (.iconst 2, 1) := dk_5 (dk_at dksX0_change_2 7 rfl rfl)
theorem dX0_change_53 : decode cX0_change 53 = .ok (.if_icmp .ne 12, 3) := dk_160 0 12 (dk_at dksX0_change_2 8 rfl rfl)
theorem dX0_change_56 : decode cX0_change 56 = .ok (.iload_n 3, 1) := dk_29 (dk_at dksX0_change_2 11 rfl rfl)
theorem dX0_change_57 : decode cX0_change 57 = .ok (.ifCond .lt 24, 3) := dk_155 0 24 (dk_at dksX0_change_2 12 rfl rfl)
theorem dX0_change_60 : decode cX0_change 60 = .ok (.iload_n 3, 1) := dk_29 (dk_at dksX0_change_2 15 rfl rfl)
theorem dX0_change_61 : decode cX0_change 61 = .ok (.iconst 1, 1) := dk_4 (dk_at dksX0_change_2 16 rfl rfl)
theorem dX0_change_62 : decode cX0_change 62 = .ok (.if_icmp .gt 19, 3) := dk_163 0 19 (dk_at dksX0_change_2 17 rfl rfl)
theorem dX0_change_65 : decode cX0_change 65 = .ok (.iload 4, 2) := dk_21 4 (dk_at dksX0_change_2 20 rfl rfl)
theorem dX0_change_67 : decode cX0_change 67 = .ok (.invokestatic 343, 3) := dk_184 1 87 (dk_at dksX0_change_3 0 rfl rfl)
theorem dX0_change_70 : decode cX0_change 70 = .ok (.ifCond .eq 11, 3) := dk_153 0 11 (dk_at dksX0_change_3 3 rfl rfl)
theorem dX0_change_73 : decode cX0_change 73 = .ok (.iload 5, 2) := dk_21 5 (dk_at dksX0_change_3 6 rfl rfl)
theorem dX0_change_75 : decode cX0_change 75 = .ok (.invokestatic 343, 3) := dk_184 1 87 (dk_at dksX0_change_3 8 rfl rfl)
theorem dX0_change_78 : decode cX0_change 78 = .ok (.ifCond .ne 6, 3) := dk_154 0 6 (dk_at dksX0_change_3 11 rfl rfl)
theorem dX0_change_81 : decode cX0_change 81 = .ok (.bipush (-2), 2) := dk_16 254 (dk_at dksX0_change_3 14 rfl rfl)
theorem dX0_change_83 : decode cX0_change 83 = .ok (.ireturn, 1) := dk_172 (dk_at dksX0_change_3 16 rfl rfl)
theorem dX0_change_84 : decode cX0_change 84 = .ok (.aload_n 0, 1) := dk_42 (dk_at dksX0_change_3 17 rfl rfl)
theorem dX0_change_85 : decode cX0_change 85 = .ok (.getfield 89, 3) := dk_180 0 89 (dk_at dksX0_change_3 18 rfl rfl)
theorem dX0_change_88 : decode cX0_change 88 = .ok (.iload_n 1, 1) := dk_27 (dk_at dksX0_change_3 21 rfl rfl)
theorem dX0_change_89 : decode cX0_change 89 = .ok (.iconst 1, 1) := dk_4 (dk_at dksX0_change_3 22 rfl rfl)
theorem dX0_change_90 : decode cX0_change 90 = .ok (.isub, 1) := dk_100 (dk_at dksX0_change_3 23 rfl rfl)
theorem dX0_change_91 : decode cX0_change 91 = .ok (.invokeinterface 221 2, 5) := by decide +kernel
theorem dX0_change_96 : decode cX0_change 96 = .ok (.checkcast 417, 3) := dk_192 1 161 (dk_at dksX0_change_4 5 rfl rfl)
theorem dX0_change_99 : decode cX0_change 99 = .ok (.astore 6, 2) := dk_58 6 (dk_at dksX0_change_4 8 rfl rfl)
theorem dX0_change_101 : decode cX0_change 101 = .ok (.aload 6, 2) := dk_25 6 (dk_at dksX0_change_4 10 rfl rfl)
theorem dX0_change_103 : decode cX0_change 103 = .ok (.getfield 424, 3) := dk_180 1 168 (dk_at dksX0_change_4 12 rfl rfl)
theorem dX0_change_106 : decode cX0_change 106 = .ok (.bipush 24, 2) := dk_16 24 (dk_at dksX0_change_4 15 rfl rfl)
theorem dX0_change_108 : decode cX0_change 108 = .ok (.if_icmp .ne 6, 3) := dk_160 0 6 (dk_at dksX0_change_4 17 rfl rfl)
theorem dX0_change_111 : decode cX0_change 111 = .ok (.bipush (-4), 2) := dk_16 252 (dk_at dksX0_change_4 20 rfl rfl)
theorem dX0_change_113 : decode cX0_change 113 = .ok (.ireturn, 1) := dk_172 (dk_at dksX0_change_4 22 rfl rfl)
theorem dX0_change_114 : decode cX0_change 114 = .ok (.aload 6, 2) := dk_25 6 (dk_at dksX0_change_5 0 rfl rfl)
theorem dX0_change_116 : decode cX0_change 116 = .ok (.getfield 425, 3) := dk_180 1 169 (dk_at dksX0_change_5 2 rfl rfl)
theorem dX0_change_119 : decode cX0_change 119 = .ok (.aload 6, 2) := dk_25 6 (dk_at dksX0_change_5 5 rfl rfl)
theorem dX0_change_121 : decode cX0_change 121 = .ok (.getfield 424, 3) := dk_180 1 168 (dk_at dksX0_change_5 7 rfl rfl)
theorem dX0_change_124 : decode cX0_change 124 = .ok (.iload_n 2, 1) := dk_28 (dk_at dksX0_change_5 10 rfl rfl)
theorem dX0_change_125 : decode cX0_change 125 = .ok (.iastore, 1) := dk_79 (dk_at dksX0_change_5 11 rfl rfl)
theorem dX0_change_126 : decode cX0_change 126 = .ok (.aload 6, 2) := dk_25 6 (dk_at dksX0_change_5 12 rfl rfl)
theorem dX0_change_128 : decode cX0_change 128 = .ok (.getfield 428, 3) := dk_180 1 172 (dk_at dksX0_change_5 14 rfl rfl)
theorem dX0_change_131 : decode cX0_change 131 = .ok (.aload 6, 2) := dk_25 6 (dk_at dksX0_change_5 17 rfl rfl)
theorem dX0_change_133 : decode cX0_change 133 = .ok (.getfield 424, 3) := dk_180 1 168 (dk_at dksX0_change_5 19 rfl rfl)
theorem dX0_change_136 : decode cX0_change 136 = .ok (.iload_n 3, 1) := dk_29 (dk_at dksX0_change_5 22 rfl rfl)
theorem dX0_change_137 : decode cX0_change 137 = .ok (.iastore, 1) := dk_79 (dk_at dksX0_change_5 23 rfl rfl)
theorem dX0_change_138 : decode cX0_change 138 = .ok (.aload 6, 2) := dk_25 6 (dk_at dksX0_change_6 0 rfl rfl)
theorem dX0_change_140 : decode cX0_change 140 = .ok (.getfield 431, 3) := dk_180 1 175 (dk_at dksX0_change_6 2 rfl rfl)
theorem dX0_change_143 : decode cX0_change 143 = .ok (.aload 6, 2) := dk_25 6 (dk_at dksX0_change_6 5 rfl rfl)
theorem dX0_change_145 : decode cX0_change 145 = .ok (.getfield 424, 3) := dk_180 1 168 (dk_at dksX0_change_6 7 rfl rfl)
theorem dX0_change_148 : decode cX0_change 148 = .ok (.iload 4, 2) := dk_21 4 (dk_at dksX0_change_6 10 rfl rfl)
theorem dX0_change_150 : decode cX0_change 150 = .ok (.iastore, 1) := dk_79 (dk_at dksX0_change_6 12 rfl rfl)
theorem dX0_change_151 : decode cX0_change 151 = .ok (.aload 6, 2) := dk_25 6 (dk_at dksX0_change_6 13 rfl rfl)
theorem dX0_change_153 : decode cX0_change 153 = .ok (.getfield 434, 3) := dk_180 1 178 (dk_at dksX0_change_6 15 rfl rfl)
theorem dX0_change_156 : decode cX0_change 156 = .ok (.aload 6, 2) := dk_25 6 (dk_at dksX0_change_6 18 rfl rfl)
theorem dX0_change_158 : decode cX0_change 158 = .ok (.dup, 1) := dk_89 (dk_at dksX0_change_6 20 rfl rfl)
theorem dX0_change_159 : decode cX0_change 159 = .ok (.getfield 424, 3) := dk_180 1 168 (dk_at dksX0_change_6 21 rfl rfl)
theorem dX0_change_162 : decode cX0_change 162 = .ok (.dup_x1, 1) := dk_90 (dk_at dksX0_change_7 0 rfl rfl)
theorem dX0_change_163 : decode cX0_change 163 = .ok (.iconst 1, 1) := dk_4 (dk_at dksX0_change_7 1 rfl rfl)
theorem dX0_change_164 : decode cX0_change 164 = .ok (.iadd, 1) := dk_96 (dk_at dksX0_change_7 2 rfl rfl)
theorem dX0_change_165 : decode cX0_change 165 = .ok (.putfield 424, 3) := dk_181 1 168 (dk_at dksX0_change_7 3 rfl rfl)
theorem dX0_change_168 : decode cX0_change 168 = .ok (.iload 5, 2) := dk_21 5 (dk_at dksX0_change_7 6 rfl rfl)
theorem dX0_change_170 : decode cX0_change 170 = .ok (.iastore, 1) := dk_79 (dk_at dksX0_change_7 8 rfl rfl)
theorem dX0_change_171 : decode cX0_change 171 = .ok (.aload 6, 2) := dk_25 6 (dk_at dksX0_change_7 9 rfl rfl)
theorem dX0_change_173 : decode cX0_change 173 = .ok (.getfield 424, 3) := dk_180 1 168 (dk_at dksX0_change_7 11 rfl rfl)
theorem dX0_change_176 : decode cX0_change 176 = .ok (.ireturn, 1) := dk_172 (dk_at dksX0_change_7 14 rfl rfl)
abbrev cX0_isPolicy : ByteArray := prog_1_method_33_code
def yX0_isPolicy : MethodName := ⟨RX0, "isPolicy", "(I)Z"⟩
def dkwX0_isPolicy_0 : List UInt8 := [27, 158, 0, 20, 27, 42, 180, 0, 89, 185, 0, 201, 1, 0, 163, 0, 7, 4, 167, 0, 4, 3, 172]
abbrev dktX0_isPolicy_0 : List UInt8 := dkwX0_isPolicy_0 ++ []
theorem dksX0_isPolicy_0 : cX0_isPolicy.data.toList.drop 0 = dktX0_isPolicy_0 := by decide +kernel
theorem dX0_isPolicy_0 : decode cX0_isPolicy 0 = .ok (.iload_n 1, 1) := dk_27 (dk_at dksX0_isPolicy_0 0 rfl rfl)
theorem dX0_isPolicy_1 : decode cX0_isPolicy 1 = .ok (.ifCond .le 20, 3) := dk_158 0 20 (dk_at dksX0_isPolicy_0 1 rfl rfl)
theorem dX0_isPolicy_4 : decode cX0_isPolicy 4 = .ok (.iload_n 1, 1) := dk_27 (dk_at dksX0_isPolicy_0 4 rfl rfl)
theorem dX0_isPolicy_5 : decode cX0_isPolicy 5 = .ok (.aload_n 0, 1) := dk_42 (dk_at dksX0_isPolicy_0 5 rfl rfl)
theorem dX0_isPolicy_6 : decode cX0_isPolicy 6 = .ok (.getfield 89, 3) := dk_180 0 89 (dk_at dksX0_isPolicy_0 6 rfl rfl)
theorem dX0_isPolicy_9 : decode cX0_isPolicy 9 = .ok (.invokeinterface 201 1, 5) := by decide +kernel
theorem dX0_isPolicy_14 : decode cX0_isPolicy 14 = .ok (.if_icmp .gt 7, 3) := dk_163 0 7 (dk_at dksX0_isPolicy_0 14 rfl rfl)
theorem dX0_isPolicy_17 : decode cX0_isPolicy 17 = .ok (.iconst 1, 1) := dk_4 (dk_at dksX0_isPolicy_0 17 rfl rfl)
theorem dX0_isPolicy_18 : decode cX0_isPolicy 18 = .ok (.goto 4, 3) := dk_167 0 4 (dk_at dksX0_isPolicy_0 18 rfl rfl)
theorem dX0_isPolicy_21 : decode cX0_isPolicy 21 = .ok (.iconst 0, 1) := dk_3 (dk_at dksX0_isPolicy_0 21 rfl rfl)
theorem dX0_isPolicy_22 : decode cX0_isPolicy 22 = .ok (.ireturn, 1) := dk_172 (dk_at dksX0_isPolicy_0 22 rfl rfl)
abbrev cX0_holds : ByteArray := prog_1_method_35_code
def yX0_holds : MethodName := ⟨RX0, "holds", "(IIII)I"⟩
def dkwX0_holds_2 : List UInt8 := [192, 1, 161, 28, 29, 21, 4, 182, 1, 181, 167, 0, 5, 16, 254, 172]
abbrev dktX0_holds_2 : List UInt8 := dkwX0_holds_2 ++ []
def dkwX0_holds_1 : List UInt8 := [153, 0, 36, 21, 4, 184, 1, 87, 153, 0, 28, 42, 180, 0, 89, 27, 4, 100, 185, 0, 221, 2, 0]
abbrev dktX0_holds_1 : List UInt8 := dkwX0_holds_1 ++ dktX0_holds_2
def dkwX0_holds_0 : List UInt8 := [42, 27, 182, 1, 164, 153, 0, 12, 28, 155, 0, 8, 28, 5, 164, 0, 5, 2, 172, 29, 184, 1, 87]
abbrev dktX0_holds_0 : List UInt8 := dkwX0_holds_0 ++ dktX0_holds_1
theorem dksX0_holds_0 : cX0_holds.data.toList.drop 0 = dktX0_holds_0 := by decide +kernel
theorem dksX0_holds_1 : cX0_holds.data.toList.drop 23 = dktX0_holds_1 := dk_seg dksX0_holds_0 23 rfl rfl
theorem dksX0_holds_2 : cX0_holds.data.toList.drop 46 = dktX0_holds_2 := dk_seg dksX0_holds_1 23 rfl rfl
theorem dX0_holds_0 : decode cX0_holds 0 = .ok (.aload_n 0, 1) := dk_42 (dk_at dksX0_holds_0 0 rfl rfl)
theorem dX0_holds_1 : decode cX0_holds 1 = .ok (.iload_n 1, 1) := dk_27 (dk_at dksX0_holds_0 1 rfl rfl)
theorem dX0_holds_2 : decode cX0_holds 2 = .ok (.invokevirtual 420, 3) := dk_182 1 164 (dk_at dksX0_holds_0 2 rfl rfl)
theorem dX0_holds_5 : decode cX0_holds 5 = .ok (.ifCond .eq 12, 3) := dk_153 0 12 (dk_at dksX0_holds_0 5 rfl rfl)
theorem dX0_holds_8 : decode cX0_holds 8 = .ok (.iload_n 2, 1) := dk_28 (dk_at dksX0_holds_0 8 rfl rfl)
theorem dX0_holds_9 : decode cX0_holds 9 = .ok (.ifCond .lt 8, 3) := dk_155 0 8 (dk_at dksX0_holds_0 9 rfl rfl)
theorem dX0_holds_12 : decode cX0_holds 12 = .ok (.iload_n 2, 1) := dk_28 (dk_at dksX0_holds_0 12 rfl rfl)
theorem dX0_holds_13 : decode cX0_holds 13 = .ok (.iconst 2, 1) := dk_5 (dk_at dksX0_holds_0 13 rfl rfl)
theorem dX0_holds_14 : decode cX0_holds 14 = .ok (.if_icmp .le 5, 3) := dk_164 0 5 (dk_at dksX0_holds_0 14 rfl rfl)
theorem dX0_holds_17 : decode cX0_holds 17 = .ok (.iconst (-1), 1) := dk_2 (dk_at dksX0_holds_0 17 rfl rfl)
theorem dX0_holds_18 : decode cX0_holds 18 = .ok (.ireturn, 1) := dk_172 (dk_at dksX0_holds_0 18 rfl rfl)
theorem dX0_holds_19 : decode cX0_holds 19 = .ok (.iload_n 3, 1) := dk_29 (dk_at dksX0_holds_0 19 rfl rfl)
theorem dX0_holds_20 : decode cX0_holds 20 = .ok (.invokestatic 343, 3) := dk_184 1 87 (dk_at dksX0_holds_0 20 rfl rfl)
theorem dX0_holds_23 : decode cX0_holds 23 = .ok (.ifCond .eq 36, 3) := dk_153 0 36 (dk_at dksX0_holds_1 0 rfl rfl)
theorem dX0_holds_26 : decode cX0_holds 26 = .ok (.iload 4, 2) := dk_21 4 (dk_at dksX0_holds_1 3 rfl rfl)
theorem dX0_holds_28 : decode cX0_holds 28 = .ok (.invokestatic 343, 3) := dk_184 1 87 (dk_at dksX0_holds_1 5 rfl rfl)
theorem dX0_holds_31 : decode cX0_holds 31 = .ok (.ifCond .eq 28, 3) := dk_153 0 28 (dk_at dksX0_holds_1 8 rfl rfl)
theorem dX0_holds_34 : decode cX0_holds 34 = .ok (.aload_n 0, 1) := dk_42 (dk_at dksX0_holds_1 11 rfl rfl)
theorem dX0_holds_35 : decode cX0_holds 35 = .ok (.getfield 89, 3) := dk_180 0 89 (dk_at dksX0_holds_1 12 rfl rfl)
theorem dX0_holds_38 : decode cX0_holds 38 = .ok (.iload_n 1, 1) := dk_27 (dk_at dksX0_holds_1 15 rfl rfl)
theorem dX0_holds_39 : decode cX0_holds 39 = .ok (.iconst 1, 1) := dk_4 (dk_at dksX0_holds_1 16 rfl rfl)
theorem dX0_holds_40 : decode cX0_holds 40 = .ok (.isub, 1) := dk_100 (dk_at dksX0_holds_1 17 rfl rfl)
theorem dX0_holds_41 : decode cX0_holds 41 = .ok (.invokeinterface 221 2, 5) := by decide +kernel
theorem dX0_holds_46 : decode cX0_holds 46 = .ok (.checkcast 417, 3) := dk_192 1 161 (dk_at dksX0_holds_2 0 rfl rfl)
theorem dX0_holds_49 : decode cX0_holds 49 = .ok (.iload_n 2, 1) := dk_28 (dk_at dksX0_holds_2 3 rfl rfl)
theorem dX0_holds_50 : decode cX0_holds 50 = .ok (.iload_n 3, 1) := dk_29 (dk_at dksX0_holds_2 4 rfl rfl)
theorem dX0_holds_51 : decode cX0_holds 51 = .ok (.iload 4, 2) := dk_21 4 (dk_at dksX0_holds_2 5 rfl rfl)
theorem dX0_holds_53 : decode cX0_holds 53 = .ok (.invokevirtual 437, 3) := dk_182 1 181 (dk_at dksX0_holds_2 7 rfl rfl)
theorem dX0_holds_56 : decode cX0_holds 56 = .ok (.goto 5, 3) := dk_167 0 5 (dk_at dksX0_holds_2 10 rfl rfl)
theorem dX0_holds_59 : decode cX0_holds 59 = .ok (.bipush (-2), 2) := dk_16 254 (dk_at dksX0_holds_2 13 rfl rfl)
theorem dX0_holds_61 : decode cX0_holds 61 = .ok (.ireturn, 1) := dk_172 (dk_at dksX0_holds_2 15 rfl rfl)
abbrev cX0_claim : ByteArray := prog_1_method_36_code
def yX0_claim : MethodName := ⟨RX0, "claim", "(IIII)I"⟩
def dkwX0_claim_4 : List UInt8 := [185, 0, 201, 1, 0, 172]
abbrev dktX0_claim_4 : List UInt8 := dkwX0_claim_4 ++ []
def dkwX0_claim_3 : List UInt8 := [185, 0, 221, 2, 0, 192, 1, 69, 29, 21, 4, 183, 1, 186, 185, 0, 195, 2, 0, 87, 42, 180, 0, 92]
abbrev dktX0_claim_3 : List UInt8 := dkwX0_claim_3 ++ dktX0_claim_4
def dkwX0_claim_2 : List UInt8 := [16, 40, 160, 0, 6, 16, 252, 172, 42, 180, 0, 92, 187, 1, 184, 89, 27, 42, 180, 0, 86, 28, 4, 100]
abbrev dktX0_claim_2 : List UInt8 := dkwX0_claim_2 ++ dktX0_claim_3
def dkwX0_claim_1 : List UInt8 := [153, 0, 11, 21, 4, 184, 1, 87, 154, 0, 6, 16, 254, 172, 42, 180, 0, 92, 185, 0, 201, 1, 0]
abbrev dktX0_claim_1 : List UInt8 := dkwX0_claim_1 ++ dktX0_claim_2
def dkwX0_claim_0 : List UInt8 := [42, 27, 182, 1, 164, 153, 0, 11, 42, 28, 182, 1, 73, 154, 0, 5, 2, 172, 29, 184, 1, 87]
abbrev dktX0_claim_0 : List UInt8 := dkwX0_claim_0 ++ dktX0_claim_1
theorem dksX0_claim_0 : cX0_claim.data.toList.drop 0 = dktX0_claim_0 := by decide +kernel
theorem dksX0_claim_1 : cX0_claim.data.toList.drop 22 = dktX0_claim_1 := dk_seg dksX0_claim_0 22 rfl rfl
theorem dksX0_claim_2 : cX0_claim.data.toList.drop 45 = dktX0_claim_2 := dk_seg dksX0_claim_1 23 rfl rfl
theorem dksX0_claim_3 : cX0_claim.data.toList.drop 69 = dktX0_claim_3 := dk_seg dksX0_claim_2 24 rfl rfl
theorem dksX0_claim_4 : cX0_claim.data.toList.drop 93 = dktX0_claim_4 := dk_seg dksX0_claim_3 24 rfl rfl
theorem dX0_claim_0 : decode cX0_claim 0 = .ok (.aload_n 0, 1) := dk_42 (dk_at dksX0_claim_0 0 rfl rfl)
theorem dX0_claim_1 : decode cX0_claim 1 = .ok (.iload_n 1, 1) := dk_27 (dk_at dksX0_claim_0 1 rfl rfl)
theorem dX0_claim_2 : decode cX0_claim 2 = .ok (.invokevirtual 420, 3) := dk_182 1 164 (dk_at dksX0_claim_0 2 rfl rfl)
theorem dX0_claim_5 : decode cX0_claim 5 = .ok (.ifCond .eq 11, 3) := dk_153 0 11 (dk_at dksX0_claim_0 5 rfl rfl)
theorem dX0_claim_8 : decode cX0_claim 8 = .ok (.aload_n 0, 1) := dk_42 (dk_at dksX0_claim_0 8 rfl rfl)
theorem dX0_claim_9 : decode cX0_claim 9 = .ok (.iload_n 2, 1) := dk_28 (dk_at dksX0_claim_0 9 rfl rfl)
theorem dX0_claim_10 : decode cX0_claim 10 = .ok (.invokevirtual 329, 3) := dk_182 1 73 (dk_at dksX0_claim_0 10 rfl rfl)
theorem dX0_claim_13 : decode cX0_claim 13 = .ok (.ifCond .ne 5, 3) := dk_154 0 5 (dk_at dksX0_claim_0 13 rfl rfl)
theorem dX0_claim_16 : decode cX0_claim 16 = .ok (.iconst (-1), 1) := dk_2 (dk_at dksX0_claim_0 16 rfl rfl)
theorem dX0_claim_17 : decode cX0_claim 17 = .ok (.ireturn, 1) := dk_172 (dk_at dksX0_claim_0 17 rfl rfl)
theorem dX0_claim_18 : decode cX0_claim 18 = .ok (.iload_n 3, 1) := dk_29 (dk_at dksX0_claim_0 18 rfl rfl)
theorem dX0_claim_19 : decode cX0_claim 19 = .ok (.invokestatic 343, 3) := dk_184 1 87 (dk_at dksX0_claim_0 19 rfl rfl)
theorem dX0_claim_22 : decode cX0_claim 22 = .ok (.ifCond .eq 11, 3) := dk_153 0 11 (dk_at dksX0_claim_1 0 rfl rfl)
theorem dX0_claim_25 : decode cX0_claim 25 = .ok (.iload 4, 2) := dk_21 4 (dk_at dksX0_claim_1 3 rfl rfl)
theorem dX0_claim_27 : decode cX0_claim 27 = .ok (.invokestatic 343, 3) := dk_184 1 87 (dk_at dksX0_claim_1 5 rfl rfl)
theorem dX0_claim_30 : decode cX0_claim 30 = .ok (.ifCond .ne 6, 3) := dk_154 0 6 (dk_at dksX0_claim_1 8 rfl rfl)
theorem dX0_claim_33 : decode cX0_claim 33 = .ok (.bipush (-2), 2) := dk_16 254 (dk_at dksX0_claim_1 11 rfl rfl)
theorem dX0_claim_35 : decode cX0_claim 35 = .ok (.ireturn, 1) := dk_172 (dk_at dksX0_claim_1 13 rfl rfl)
theorem dX0_claim_36 : decode cX0_claim 36 = .ok (.aload_n 0, 1) := dk_42 (dk_at dksX0_claim_1 14 rfl rfl)
theorem dX0_claim_37 : decode cX0_claim 37 = .ok (.getfield 92, 3) := dk_180 0 92 (dk_at dksX0_claim_1 15 rfl rfl)
theorem dX0_claim_40 : decode cX0_claim 40 = .ok (.invokeinterface 201 1, 5) := by decide +kernel
theorem dX0_claim_45 : decode cX0_claim 45 = .ok (.bipush 40, 2) := dk_16 40 (dk_at dksX0_claim_2 0 rfl rfl)
theorem dX0_claim_47 : decode cX0_claim 47 = .ok (.if_icmp .ne 6, 3) := dk_160 0 6 (dk_at dksX0_claim_2 2 rfl rfl)
theorem dX0_claim_50 : decode cX0_claim 50 = .ok (.bipush (-4), 2) := dk_16 252 (dk_at dksX0_claim_2 5 rfl rfl)
theorem dX0_claim_52 : decode cX0_claim 52 = .ok (.ireturn, 1) := dk_172 (dk_at dksX0_claim_2 7 rfl rfl)
theorem dX0_claim_53 : decode cX0_claim 53 = .ok (.aload_n 0, 1) := dk_42 (dk_at dksX0_claim_2 8 rfl rfl)
theorem dX0_claim_54 : decode cX0_claim 54 = .ok (.getfield 92, 3) := dk_180 0 92 (dk_at dksX0_claim_2 9 rfl rfl)
theorem dX0_claim_57 : decode cX0_claim 57 = .ok (.new 440, 3) := dk_187 1 184 (dk_at dksX0_claim_2 12 rfl rfl)
theorem dX0_claim_60 : decode cX0_claim 60 = .ok (.dup, 1) := dk_89 (dk_at dksX0_claim_2 15 rfl rfl)
theorem dX0_claim_61 : decode cX0_claim 61 = .ok (.iload_n 1, 1) := dk_27 (dk_at dksX0_claim_2 16 rfl rfl)
theorem dX0_claim_62 : decode cX0_claim 62 = .ok (.aload_n 0, 1) := dk_42 (dk_at dksX0_claim_2 17 rfl rfl)
theorem dX0_claim_63 : decode cX0_claim 63 = .ok (.getfield 86, 3) := dk_180 0 86 (dk_at dksX0_claim_2 18 rfl rfl)
theorem dX0_claim_66 : decode cX0_claim 66 = .ok (.iload_n 2, 1) := dk_28 (dk_at dksX0_claim_2 21 rfl rfl)
theorem dX0_claim_67 : decode cX0_claim 67 = .ok (.iconst 1, 1) := dk_4 (dk_at dksX0_claim_2 22 rfl rfl)
theorem dX0_claim_68 : decode cX0_claim 68 = .ok (.isub, 1) := dk_100 (dk_at dksX0_claim_2 23 rfl rfl)
theorem dX0_claim_69 : decode cX0_claim 69 = .ok (.invokeinterface 221 2, 5) := by decide +kernel
theorem dX0_claim_74 : decode cX0_claim 74 = .ok (.checkcast 325, 3) := dk_192 1 69 (dk_at dksX0_claim_3 5 rfl rfl)
theorem dX0_claim_77 : decode cX0_claim 77 = .ok (.iload_n 3, 1) := dk_29 (dk_at dksX0_claim_3 8 rfl rfl)
theorem dX0_claim_78 : decode cX0_claim 78 = .ok (.iload 4, 2) := dk_21 4 (dk_at dksX0_claim_3 9 rfl rfl)
theorem dX0_claim_80 : decode cX0_claim 80 = .ok (.invokespecial 442, 3) := dk_183 1 186 (dk_at dksX0_claim_3 11 rfl rfl)
theorem dX0_claim_83 : decode cX0_claim 83 = .ok (.invokeinterface 195 2, 5) := by decide +kernel
theorem dX0_claim_88 : decode cX0_claim 88 = .ok (.pop, 1) := dk_87 (dk_at dksX0_claim_3 19 rfl rfl)
theorem dX0_claim_89 : decode cX0_claim 89 = .ok (.aload_n 0, 1) := dk_42 (dk_at dksX0_claim_3 20 rfl rfl)
theorem dX0_claim_90 : decode cX0_claim 90 = .ok (.getfield 92, 3) := dk_180 0 92 (dk_at dksX0_claim_3 21 rfl rfl)
theorem dX0_claim_93 : decode cX0_claim 93 = .ok (.invokeinterface 201 1, 5) := by decide +kernel
theorem dX0_claim_98 : decode cX0_claim 98 = .ok (.ireturn, 1) := dk_172 (dk_at dksX0_claim_4 5 rfl rfl)
abbrev cX0_loss : ByteArray := prog_1_method_38_code
def yX0_loss : MethodName := ⟨RX0, "loss", "(III)I"⟩
def dkwX0_loss_3 : List UInt8 := [182, 1, 93, 25, 4, 180, 1, 92, 172]
abbrev dktX0_loss_3 : List UInt8 := dkwX0_loss_3 ++ []
def dkwX0_loss_2 : List UInt8 := [180, 1, 192, 58, 4, 25, 4, 180, 1, 92, 16, 6, 160, 0, 6, 16, 252, 172, 25, 4, 28, 29]
abbrev dktX0_loss_2 : List UInt8 := dkwX0_loss_2 ++ dktX0_loss_3
def dkwX0_loss_1 : List UInt8 := [184, 1, 87, 154, 0, 6, 16, 254, 172, 42, 180, 0, 92, 27, 4, 100, 185, 0, 221, 2, 0, 192, 1, 184]
abbrev dktX0_loss_1 : List UInt8 := dkwX0_loss_1 ++ dktX0_loss_2
def dkwX0_loss_0 : List UInt8 := [42, 27, 182, 1, 189, 154, 0, 5, 2, 172, 28, 155, 0, 17, 28, 19, 1, 167, 163, 0, 10, 29]
abbrev dktX0_loss_0 : List UInt8 := dkwX0_loss_0 ++ dktX0_loss_1
theorem dksX0_loss_0 : cX0_loss.data.toList.drop 0 = dktX0_loss_0 := by decide +kernel
theorem dksX0_loss_1 : cX0_loss.data.toList.drop 22 = dktX0_loss_1 := dk_seg dksX0_loss_0 22 rfl rfl
theorem dksX0_loss_2 : cX0_loss.data.toList.drop 46 = dktX0_loss_2 := dk_seg dksX0_loss_1 24 rfl rfl
theorem dksX0_loss_3 : cX0_loss.data.toList.drop 68 = dktX0_loss_3 := dk_seg dksX0_loss_2 22 rfl rfl
theorem dX0_loss_0 : decode cX0_loss 0 = .ok (.aload_n 0, 1) := dk_42 (dk_at dksX0_loss_0 0 rfl rfl)
theorem dX0_loss_1 : decode cX0_loss 1 = .ok (.iload_n 1, 1) := dk_27 (dk_at dksX0_loss_0 1 rfl rfl)
theorem dX0_loss_2 : decode cX0_loss 2 = .ok (.invokevirtual 445, 3) := dk_182 1 189 (dk_at dksX0_loss_0 2 rfl rfl)
theorem dX0_loss_5 : decode cX0_loss 5 = .ok (.ifCond .ne 5, 3) := dk_154 0 5 (dk_at dksX0_loss_0 5 rfl rfl)
theorem dX0_loss_8 : decode cX0_loss 8 = .ok (.iconst (-1), 1) := dk_2 (dk_at dksX0_loss_0 8 rfl rfl)
theorem dX0_loss_9 : decode cX0_loss 9 = .ok (.ireturn, 1) := dk_172 (dk_at dksX0_loss_0 9 rfl rfl)
theorem dX0_loss_10 : decode cX0_loss 10 = .ok (.iload_n 2, 1) := dk_28 (dk_at dksX0_loss_0 10 rfl rfl)
theorem dX0_loss_11 : decode cX0_loss 11 = .ok (.ifCond .lt 17, 3) := dk_155 0 17 (dk_at dksX0_loss_0 11 rfl rfl)
theorem dX0_loss_14 : decode cX0_loss 14 = .ok (.iload_n 2, 1) := dk_28 (dk_at dksX0_loss_0 14 rfl rfl)
theorem dX0_loss_15 : decode cX0_loss 15 = .ok (.ldc_w 423, 3) := dk_19 1 167 (dk_at dksX0_loss_0 15 rfl rfl)
theorem dX0_loss_18 : decode cX0_loss 18 = .ok (.if_icmp .gt 10, 3) := dk_163 0 10 (dk_at dksX0_loss_0 18 rfl rfl)
theorem dX0_loss_21 : decode cX0_loss 21 = .ok (.iload_n 3, 1) := dk_29 (dk_at dksX0_loss_0 21 rfl rfl)
theorem dX0_loss_22 : decode cX0_loss 22 = .ok (.invokestatic 343, 3) := dk_184 1 87 (dk_at dksX0_loss_1 0 rfl rfl)
theorem dX0_loss_25 : decode cX0_loss 25 = .ok (.ifCond .ne 6, 3) := dk_154 0 6 (dk_at dksX0_loss_1 3 rfl rfl)
theorem dX0_loss_28 : decode cX0_loss 28 = .ok (.bipush (-2), 2) := dk_16 254 (dk_at dksX0_loss_1 6 rfl rfl)
theorem dX0_loss_30 : decode cX0_loss 30 = .ok (.ireturn, 1) := dk_172 (dk_at dksX0_loss_1 8 rfl rfl)
theorem dX0_loss_31 : decode cX0_loss 31 = .ok (.aload_n 0, 1) := dk_42 (dk_at dksX0_loss_1 9 rfl rfl)
theorem dX0_loss_32 : decode cX0_loss 32 = .ok (.getfield 92, 3) := dk_180 0 92 (dk_at dksX0_loss_1 10 rfl rfl)
theorem dX0_loss_35 : decode cX0_loss 35 = .ok (.iload_n 1, 1) := dk_27 (dk_at dksX0_loss_1 13 rfl rfl)
theorem dX0_loss_36 : decode cX0_loss 36 = .ok (.iconst 1, 1) := dk_4 (dk_at dksX0_loss_1 14 rfl rfl)
theorem dX0_loss_37 : decode cX0_loss 37 = .ok (.isub, 1) := dk_100 (dk_at dksX0_loss_1 15 rfl rfl)
theorem dX0_loss_38 : decode cX0_loss 38 = .ok (.invokeinterface 221 2, 5) := by decide +kernel
theorem dX0_loss_43 : decode cX0_loss 43 = .ok (.checkcast 440, 3) := dk_192 1 184 (dk_at dksX0_loss_1 21 rfl rfl)
theorem dX0_loss_46 : decode cX0_loss 46 = .ok (.getfield 448, 3) := dk_180 1 192 (dk_at dksX0_loss_2 0 rfl rfl)
theorem dX0_loss_49 : decode cX0_loss 49 = .ok (.astore 4, 2) := dk_58 4 (dk_at dksX0_loss_2 3 rfl rfl)
theorem dX0_loss_51 : decode cX0_loss 51 = .ok (.aload 4, 2) := dk_25 4 (dk_at dksX0_loss_2 5 rfl rfl)
theorem dX0_loss_53 : decode cX0_loss 53 = .ok (.getfield 348, 3) := dk_180 1 92 (dk_at dksX0_loss_2 7 rfl rfl)
theorem dX0_loss_56 : decode cX0_loss 56 = .ok (.bipush 6, 2) := dk_16 6 (dk_at dksX0_loss_2 10 rfl rfl)
theorem dX0_loss_58 : decode cX0_loss 58 = .ok (.if_icmp .ne 6, 3) := dk_160 0 6 (dk_at dksX0_loss_2 12 rfl rfl)
theorem dX0_loss_61 : decode cX0_loss 61 = .ok (.bipush (-4), 2) := dk_16 252 (dk_at dksX0_loss_2 15 rfl rfl)
theorem dX0_loss_63 : decode cX0_loss 63 = .ok (.ireturn, 1) := dk_172 (dk_at dksX0_loss_2 17 rfl rfl)
theorem dX0_loss_64 : decode cX0_loss 64 = .ok (.aload 4, 2) := dk_25 4 (dk_at dksX0_loss_2 18 rfl rfl)
theorem dX0_loss_66 : decode cX0_loss 66 = .ok (.iload_n 2, 1) := dk_28 (dk_at dksX0_loss_2 20 rfl rfl)
theorem dX0_loss_67 : decode cX0_loss 67 = .ok (.iload_n 3, 1) := dk_29 (dk_at dksX0_loss_2 21 rfl rfl)
theorem dX0_loss_68 : decode cX0_loss 68 = .ok (.invokevirtual 349, 3) := dk_182 1 93 (dk_at dksX0_loss_3 0 rfl rfl)
theorem dX0_loss_71 : decode cX0_loss 71 = .ok (.aload 4, 2) := dk_25 4 (dk_at dksX0_loss_3 3 rfl rfl)
theorem dX0_loss_73 : decode cX0_loss 73 = .ok (.getfield 348, 3) := dk_180 1 92 (dk_at dksX0_loss_3 5 rfl rfl)
theorem dX0_loss_76 : decode cX0_loss 76 = .ok (.ireturn, 1) := dk_172 (dk_at dksX0_loss_3 8 rfl rfl)
abbrev cX0_isClaim : ByteArray := prog_1_method_37_code
def yX0_isClaim : MethodName := ⟨RX0, "isClaim", "(I)Z"⟩
def dkwX0_isClaim_0 : List UInt8 := [27, 158, 0, 20, 27, 42, 180, 0, 92, 185, 0, 201, 1, 0, 163, 0, 7, 4, 167, 0, 4, 3, 172]
abbrev dktX0_isClaim_0 : List UInt8 := dkwX0_isClaim_0 ++ []
theorem dksX0_isClaim_0 : cX0_isClaim.data.toList.drop 0 = dktX0_isClaim_0 := by decide +kernel
theorem dX0_isClaim_0 : decode cX0_isClaim 0 = .ok (.iload_n 1, 1) := dk_27 (dk_at dksX0_isClaim_0 0 rfl rfl)
theorem dX0_isClaim_1 : decode cX0_isClaim 1 = .ok (.ifCond .le 20, 3) := dk_158 0 20 (dk_at dksX0_isClaim_0 1 rfl rfl)
theorem dX0_isClaim_4 : decode cX0_isClaim 4 = .ok (.iload_n 1, 1) := dk_27 (dk_at dksX0_isClaim_0 4 rfl rfl)
theorem dX0_isClaim_5 : decode cX0_isClaim 5 = .ok (.aload_n 0, 1) := dk_42 (dk_at dksX0_isClaim_0 5 rfl rfl)
theorem dX0_isClaim_6 : decode cX0_isClaim 6 = .ok (.getfield 92, 3) := dk_180 0 92 (dk_at dksX0_isClaim_0 6 rfl rfl)
theorem dX0_isClaim_9 : decode cX0_isClaim 9 = .ok (.invokeinterface 201 1, 5) := by decide +kernel
theorem dX0_isClaim_14 : decode cX0_isClaim 14 = .ok (.if_icmp .gt 7, 3) := dk_163 0 7 (dk_at dksX0_isClaim_0 14 rfl rfl)
theorem dX0_isClaim_17 : decode cX0_isClaim 17 = .ok (.iconst 1, 1) := dk_4 (dk_at dksX0_isClaim_0 17 rfl rfl)
theorem dX0_isClaim_18 : decode cX0_isClaim 18 = .ok (.goto 4, 3) := dk_167 0 4 (dk_at dksX0_isClaim_0 18 rfl rfl)
theorem dX0_isClaim_21 : decode cX0_isClaim 21 = .ok (.iconst 0, 1) := dk_3 (dk_at dksX0_isClaim_0 21 rfl rfl)
theorem dX0_isClaim_22 : decode cX0_isClaim 22 = .ok (.ireturn, 1) := dk_172 (dk_at dksX0_isClaim_0 22 rfl rfl)
abbrev cX0_pay : ByteArray := prog_1_method_43_code
def yX0_pay : MethodName := ⟨RX0, "pay", "(II)I"⟩
def dkwX0_pay_2 : List UInt8 := [180, 0, 128, 27, 4, 100, 46, 172]
abbrev dktX0_pay_2 : List UInt8 := dkwX0_pay_2 ++ []
def dkwX0_pay_1 : List UInt8 := [180, 0, 92, 27, 4, 100, 185, 0, 221, 2, 0, 192, 1, 184, 180, 1, 196, 28, 182, 1, 223, 42]
abbrev dktX0_pay_1 : List UInt8 := dkwX0_pay_1 ++ dktX0_pay_2
def dkwX0_pay_0 : List UInt8 := [42, 27, 182, 1, 189, 154, 0, 5, 2, 172, 28, 184, 1, 87, 154, 0, 6, 16, 254, 172, 42, 42]
abbrev dktX0_pay_0 : List UInt8 := dkwX0_pay_0 ++ dktX0_pay_1
theorem dksX0_pay_0 : cX0_pay.data.toList.drop 0 = dktX0_pay_0 := by decide +kernel
theorem dksX0_pay_1 : cX0_pay.data.toList.drop 22 = dktX0_pay_1 := dk_seg dksX0_pay_0 22 rfl rfl
theorem dksX0_pay_2 : cX0_pay.data.toList.drop 44 = dktX0_pay_2 := dk_seg dksX0_pay_1 22 rfl rfl
theorem dX0_pay_0 : decode cX0_pay 0 = .ok (.aload_n 0, 1) := dk_42 (dk_at dksX0_pay_0 0 rfl rfl)
theorem dX0_pay_1 : decode cX0_pay 1 = .ok (.iload_n 1, 1) := dk_27 (dk_at dksX0_pay_0 1 rfl rfl)
theorem dX0_pay_2 : decode cX0_pay 2 = .ok (.invokevirtual 445, 3) := dk_182 1 189 (dk_at dksX0_pay_0 2 rfl rfl)
theorem dX0_pay_5 : decode cX0_pay 5 = .ok (.ifCond .ne 5, 3) := dk_154 0 5 (dk_at dksX0_pay_0 5 rfl rfl)
theorem dX0_pay_8 : decode cX0_pay 8 = .ok (.iconst (-1), 1) := dk_2 (dk_at dksX0_pay_0 8 rfl rfl)
theorem dX0_pay_9 : decode cX0_pay 9 = .ok (.ireturn, 1) := dk_172 (dk_at dksX0_pay_0 9 rfl rfl)
theorem dX0_pay_10 : decode cX0_pay 10 = .ok (.iload_n 2, 1) := dk_28 (dk_at dksX0_pay_0 10 rfl rfl)
theorem dX0_pay_11 : decode cX0_pay 11 = .ok (.invokestatic 343, 3) := dk_184 1 87 (dk_at dksX0_pay_0 11 rfl rfl)
theorem dX0_pay_14 : decode cX0_pay 14 = .ok (.ifCond .ne 6, 3) := dk_154 0 6 (dk_at dksX0_pay_0 14 rfl rfl)
theorem dX0_pay_17 : decode cX0_pay 17 = .ok (.bipush (-2), 2) := dk_16 254 (dk_at dksX0_pay_0 17 rfl rfl)
theorem dX0_pay_19 : decode cX0_pay 19 = .ok (.ireturn, 1) := dk_172 (dk_at dksX0_pay_0 19 rfl rfl)
theorem dX0_pay_20 : decode cX0_pay 20 = .ok (.aload_n 0, 1) := dk_42 (dk_at dksX0_pay_0 20 rfl rfl)
theorem dX0_pay_21 : decode cX0_pay 21 = .ok (.aload_n 0, 1) := dk_42 (dk_at dksX0_pay_0 21 rfl rfl)
theorem dX0_pay_22 : decode cX0_pay 22 = .ok (.getfield 92, 3) := dk_180 0 92 (dk_at dksX0_pay_1 0 rfl rfl)
theorem dX0_pay_25 : decode cX0_pay 25 = .ok (.iload_n 1, 1) := dk_27 (dk_at dksX0_pay_1 3 rfl rfl)
theorem dX0_pay_26 : decode cX0_pay 26 = .ok (.iconst 1, 1) := dk_4 (dk_at dksX0_pay_1 4 rfl rfl)
theorem dX0_pay_27 : decode cX0_pay 27 = .ok (.isub, 1) := dk_100 (dk_at dksX0_pay_1 5 rfl rfl)
theorem dX0_pay_28 : decode cX0_pay 28 = .ok (.invokeinterface 221 2, 5) := by decide +kernel
theorem dX0_pay_33 : decode cX0_pay 33 = .ok (.checkcast 440, 3) := dk_192 1 184 (dk_at dksX0_pay_1 11 rfl rfl)
theorem dX0_pay_36 : decode cX0_pay 36 = .ok (.getfield 452, 3) := dk_180 1 196 (dk_at dksX0_pay_1 14 rfl rfl)
theorem dX0_pay_39 : decode cX0_pay 39 = .ok (.iload_n 2, 1) := dk_28 (dk_at dksX0_pay_1 17 rfl rfl)
theorem dX0_pay_40 : decode cX0_pay 40 = .ok (.invokevirtual 479, 3) := dk_182 1 223 (dk_at dksX0_pay_1 18 rfl rfl)
theorem dX0_pay_43 : decode cX0_pay 43 = .ok (.aload_n 0, 1) := dk_42 (dk_at dksX0_pay_1 21 rfl rfl)
theorem dX0_pay_44 : decode cX0_pay 44 = .ok (.getfield 128, 3) := dk_180 0 128 (dk_at dksX0_pay_2 0 rfl rfl)
theorem dX0_pay_47 : decode cX0_pay 47 = .ok (.iload_n 1, 1) := dk_27 (dk_at dksX0_pay_2 3 rfl rfl)
theorem dX0_pay_48 : decode cX0_pay 48 = .ok (.iconst 1, 1) := dk_4 (dk_at dksX0_pay_2 4 rfl rfl)
theorem dX0_pay_49 : decode cX0_pay 49 = .ok (.isub, 1) := dk_100 (dk_at dksX0_pay_2 5 rfl rfl)
theorem dX0_pay_50 : decode cX0_pay 50 = .ok (.iaload, 1) := dk_46 (dk_at dksX0_pay_2 6 rfl rfl)
theorem dX0_pay_51 : decode cX0_pay 51 = .ok (.ireturn, 1) := dk_172 (dk_at dksX0_pay_2 7 rfl rfl)
abbrev cX0_payAll : ByteArray := prog_1_method_40_code
def yX0_payAll : MethodName := ⟨RX0, "payAll", "(II)V"⟩
def dkwX0_payAll_9 : List UInt8 := [180, 0, 131, 21, 6, 46, 22, 10, 136, 79, 22, 4, 22, 10, 97, 55, 4, 132, 6, 1, 167, 255, 97, 177]
abbrev dktX0_payAll_9 : List UInt8 := dkwX0_payAll_9 ++ []
def dkwX0_payAll_8 : List UInt8 := [185, 0, 221, 2, 0, 192, 1, 161, 28, 22, 4, 22, 8, 182, 1, 206, 55, 10, 42, 180, 0, 128, 42]
abbrev dktX0_payAll_8 : List UInt8 := dkwX0_payAll_8 ++ dktX0_payAll_9
def dkwX0_payAll_7 : List UInt8 := [167, 0, 4, 9, 97, 55, 8, 132, 10, 1, 167, 255, 186, 42, 25, 7, 42, 180, 0, 89, 27, 4, 100]
abbrev dktX0_payAll_7 : List UInt8 := dkwX0_payAll_7 ++ dktX0_payAll_8
def dkwX0_payAll_6 : List UInt8 := [180, 1, 200, 17, 1, 109, 108, 160, 0, 19, 42, 180, 0, 128, 42, 180, 0, 131, 21, 10, 46, 46, 133]
abbrev dktX0_payAll_6 : List UInt8 := dkwX0_payAll_6 ++ dktX0_payAll_7
def dkwX0_payAll_5 : List UInt8 := [180, 0, 131, 21, 10, 46, 185, 0, 221, 2, 0, 192, 1, 184, 180, 1, 200, 17, 1, 109, 108, 25, 7]
abbrev dktX0_payAll_5 : List UInt8 := dkwX0_payAll_5 ++ dktX0_payAll_6
def dkwX0_payAll_4 : List UInt8 := [58, 7, 9, 55, 8, 3, 54, 10, 21, 10, 21, 6, 162, 0, 69, 22, 8, 42, 180, 0, 92, 42]
abbrev dktX0_payAll_4 : List UInt8 := dkwX0_payAll_4 ++ dktX0_payAll_5
def dkwX0_payAll_3 : List UInt8 := [29, 162, 0, 159, 42, 180, 0, 92, 42, 180, 0, 131, 21, 6, 46, 185, 0, 221, 2, 0, 192, 1, 184]
abbrev dktX0_payAll_3 : List UInt8 := dkwX0_payAll_3 ++ dktX0_payAll_4
def dkwX0_payAll_2 : List UInt8 := [29, 46, 79, 132, 3, 1, 167, 255, 204, 42, 27, 28, 182, 1, 203, 62, 9, 55, 4, 3, 54, 6, 21, 6]
abbrev dktX0_payAll_2 : List UInt8 := dkwX0_payAll_2 ++ dktX0_payAll_3
def dkwX0_payAll_1 : List UInt8 := [29, 185, 0, 221, 2, 0, 192, 1, 184, 180, 1, 196, 27, 160, 0, 7, 3, 167, 0, 9, 42, 180, 0, 128]
abbrev dktX0_payAll_1 : List UInt8 := dkwX0_payAll_1 ++ dktX0_payAll_2
def dkwX0_payAll_0 : List UInt8 := [3, 62, 29, 42, 180, 0, 92, 185, 0, 201, 1, 0, 162, 0, 45, 42, 180, 0, 128, 29, 42, 180, 0, 92]
abbrev dktX0_payAll_0 : List UInt8 := dkwX0_payAll_0 ++ dktX0_payAll_1
theorem dksX0_payAll_0 : cX0_payAll.data.toList.drop 0 = dktX0_payAll_0 := by decide +kernel
theorem dksX0_payAll_1 : cX0_payAll.data.toList.drop 24 = dktX0_payAll_1 := dk_seg dksX0_payAll_0 24 rfl rfl
theorem dksX0_payAll_2 : cX0_payAll.data.toList.drop 48 = dktX0_payAll_2 := dk_seg dksX0_payAll_1 24 rfl rfl
theorem dksX0_payAll_3 : cX0_payAll.data.toList.drop 72 = dktX0_payAll_3 := dk_seg dksX0_payAll_2 24 rfl rfl
theorem dksX0_payAll_4 : cX0_payAll.data.toList.drop 95 = dktX0_payAll_4 := dk_seg dksX0_payAll_3 23 rfl rfl
theorem dksX0_payAll_5 : cX0_payAll.data.toList.drop 117 = dktX0_payAll_5 := dk_seg dksX0_payAll_4 22 rfl rfl
theorem dksX0_payAll_6 : cX0_payAll.data.toList.drop 140 = dktX0_payAll_6 := dk_seg dksX0_payAll_5 23 rfl rfl
theorem dksX0_payAll_7 : cX0_payAll.data.toList.drop 163 = dktX0_payAll_7 := dk_seg dksX0_payAll_6 23 rfl rfl
theorem dksX0_payAll_8 : cX0_payAll.data.toList.drop 186 = dktX0_payAll_8 := dk_seg dksX0_payAll_7 23 rfl rfl
theorem dksX0_payAll_9 : cX0_payAll.data.toList.drop 209 = dktX0_payAll_9 := dk_seg dksX0_payAll_8 23 rfl rfl
theorem dX0_payAll_0 : decode cX0_payAll 0 = .ok (.iconst 0, 1) := dk_3 (dk_at dksX0_payAll_0 0 rfl rfl)
theorem dX0_payAll_1 : decode cX0_payAll 1 = .ok (.istore_n 3, 1) := dk_62 (dk_at dksX0_payAll_0 1 rfl rfl)
theorem dX0_payAll_2 : decode cX0_payAll 2 = .ok (.iload_n 3, 1) := dk_29 (dk_at dksX0_payAll_0 2 rfl rfl)
theorem dX0_payAll_3 : decode cX0_payAll 3 = .ok (.aload_n 0, 1) := dk_42 (dk_at dksX0_payAll_0 3 rfl rfl)
theorem dX0_payAll_4 : decode cX0_payAll 4 = .ok (.getfield 92, 3) := dk_180 0 92 (dk_at dksX0_payAll_0 4 rfl rfl)
theorem dX0_payAll_7 : decode cX0_payAll 7 = .ok (.invokeinterface 201 1, 5) := by decide +kernel
theorem dX0_payAll_12 : decode cX0_payAll 12 = .ok (.if_icmp .ge 45, 3) := dk_162 0 45 (dk_at dksX0_payAll_0 12 rfl rfl)
theorem dX0_payAll_15 : decode cX0_payAll 15 = .ok (.aload_n 0, 1) := dk_42 (dk_at dksX0_payAll_0 15 rfl rfl)
theorem dX0_payAll_16 : decode cX0_payAll 16 = .ok (.getfield 128, 3) := dk_180 0 128 (dk_at dksX0_payAll_0 16 rfl rfl)
theorem dX0_payAll_19 : decode cX0_payAll 19 = .ok (.iload_n 3, 1) := dk_29 (dk_at dksX0_payAll_0 19 rfl rfl)
theorem dX0_payAll_20 : decode cX0_payAll 20 = .ok (.aload_n 0, 1) := dk_42 (dk_at dksX0_payAll_0 20 rfl rfl)
theorem dX0_payAll_21 : decode cX0_payAll 21 = .ok (.getfield 92, 3) := dk_180 0 92 (dk_at dksX0_payAll_0 21 rfl rfl)
theorem dX0_payAll_24 : decode cX0_payAll 24 = .ok (.iload_n 3, 1) := dk_29 (dk_at dksX0_payAll_1 0 rfl rfl)
theorem dX0_payAll_25 : decode cX0_payAll 25 = .ok (.invokeinterface 221 2, 5) := by decide +kernel
theorem dX0_payAll_30 : decode cX0_payAll 30 = .ok (.checkcast 440, 3) := dk_192 1 184 (dk_at dksX0_payAll_1 6 rfl rfl)
theorem dX0_payAll_33 : decode cX0_payAll 33 = .ok (.getfield 452, 3) := dk_180 1 196 (dk_at dksX0_payAll_1 9 rfl rfl)
theorem dX0_payAll_36 : decode cX0_payAll 36 = .ok (.iload_n 1, 1) := dk_27 (dk_at dksX0_payAll_1 12 rfl rfl)
theorem dX0_payAll_37 : decode cX0_payAll 37 = .ok (.if_icmp .ne 7, 3) := dk_160 0 7 (dk_at dksX0_payAll_1 13 rfl rfl)
theorem dX0_payAll_40 : decode cX0_payAll 40 = .ok (.iconst 0, 1) := dk_3 (dk_at dksX0_payAll_1 16 rfl rfl)
theorem dX0_payAll_41 : decode cX0_payAll 41 = .ok (.goto 9, 3) := dk_167 0 9 (dk_at dksX0_payAll_1 17 rfl rfl)
theorem dX0_payAll_44 : decode cX0_payAll 44 = .ok (.aload_n 0, 1) := dk_42 (dk_at dksX0_payAll_1 20 rfl rfl)
theorem dX0_payAll_45 : decode cX0_payAll 45 = .ok (.getfield 128, 3) := dk_180 0 128 (dk_at dksX0_payAll_1 21 rfl rfl)
theorem dX0_payAll_48 : decode cX0_payAll 48 = .ok (.iload_n 3, 1) := dk_29 (dk_at dksX0_payAll_2 0 rfl rfl)
theorem dX0_payAll_49 : decode cX0_payAll 49 = .ok (.iaload, 1) := dk_46 (dk_at dksX0_payAll_2 1 rfl rfl)
theorem dX0_payAll_50 : decode cX0_payAll 50 = .ok (.iastore, 1) := dk_79 (dk_at dksX0_payAll_2 2 rfl rfl)
theorem dX0_payAll_51 : decode cX0_payAll 51 = .ok (.iinc 3 1, 3) := dk_132 3 1 (dk_at dksX0_payAll_2 3 rfl rfl)
theorem dX0_payAll_54 : decode cX0_payAll 54 = .ok (.goto (-52), 3) := dk_167 255 204 (dk_at dksX0_payAll_2 6 rfl rfl)
theorem dX0_payAll_57 : decode cX0_payAll 57 = .ok (.aload_n 0, 1) := dk_42 (dk_at dksX0_payAll_2 9 rfl rfl)
theorem dX0_payAll_58 : decode cX0_payAll 58 = .ok (.iload_n 1, 1) := dk_27 (dk_at dksX0_payAll_2 10 rfl rfl)
theorem dX0_payAll_59 : decode cX0_payAll 59 = .ok (.iload_n 2, 1) := dk_28 (dk_at dksX0_payAll_2 11 rfl rfl)
theorem dX0_payAll_60 : decode cX0_payAll 60 = .ok (.invokevirtual 459, 3) := dk_182 1 203 (dk_at dksX0_payAll_2 12 rfl rfl)
theorem dX0_payAll_63 : decode cX0_payAll 63 = .ok (.istore_n 3, 1) := dk_62 (dk_at dksX0_payAll_2 15 rfl rfl)
theorem dX0_payAll_64 : decode cX0_payAll 64 = .ok (.lconst 0, 1) := dk_9 (dk_at dksX0_payAll_2 16 rfl rfl)
theorem dX0_payAll_65 : decode cX0_payAll 65 = .ok (.lstore 4, 2) := dk_55 4 (dk_at dksX0_payAll_2 17 rfl rfl)
theorem dX0_payAll_67 : decode cX0_payAll 67 = .ok (.iconst 0, 1) := dk_3 (dk_at dksX0_payAll_2 19 rfl rfl)
theorem dX0_payAll_68 : decode cX0_payAll 68 = .ok (.istore 6, 2) := dk_54 6 (dk_at dksX0_payAll_2 20 rfl rfl)
theorem dX0_payAll_70 : decode cX0_payAll 70 = .ok (.iload 6, 2) := dk_21 6 (dk_at dksX0_payAll_2 22 rfl rfl)
theorem dX0_payAll_72 : decode cX0_payAll 72 = .ok (.iload_n 3, 1) := dk_29 (dk_at dksX0_payAll_3 0 rfl rfl)
theorem dX0_payAll_73 : decode cX0_payAll 73 = .ok (.if_icmp .ge 159, 3) := dk_162 0 159 (dk_at dksX0_payAll_3 1 rfl rfl)
theorem dX0_payAll_76 : decode cX0_payAll 76 = .ok (.aload_n 0, 1) := dk_42 (dk_at dksX0_payAll_3 4 rfl rfl)
theorem dX0_payAll_77 : decode cX0_payAll 77 = .ok (.getfield 92, 3) := dk_180 0 92 (dk_at dksX0_payAll_3 5 rfl rfl)
theorem dX0_payAll_80 : decode cX0_payAll 80 = .ok (.aload_n 0, 1) := dk_42 (dk_at dksX0_payAll_3 8 rfl rfl)
theorem dX0_payAll_81 : decode cX0_payAll 81 = .ok (.getfield 131, 3) := dk_180 0 131 (dk_at dksX0_payAll_3 9 rfl rfl)
theorem dX0_payAll_84 : decode cX0_payAll 84 = .ok (.iload 6, 2) := dk_21 6 (dk_at dksX0_payAll_3 12 rfl rfl)
theorem dX0_payAll_86 : decode cX0_payAll 86 = .ok (.iaload, 1) := dk_46 (dk_at dksX0_payAll_3 14 rfl rfl)
theorem dX0_payAll_87 : decode cX0_payAll 87 = .ok (.invokeinterface 221 2, 5) := by decide +kernel
theorem dX0_payAll_92 : decode cX0_payAll 92 = .ok (.checkcast 440, 3) := dk_192 1 184 (dk_at dksX0_payAll_3 20 rfl rfl)
theorem dX0_payAll_95 : decode cX0_payAll 95 = .ok (.astore 7, 2) := dk_58 7 (dk_at dksX0_payAll_4 0 rfl rfl)
theorem dX0_payAll_97 : decode cX0_payAll 97 = .ok (.lconst 0, 1) := dk_9 (dk_at dksX0_payAll_4 2 rfl rfl)
theorem dX0_payAll_98 : decode cX0_payAll 98 = .ok (.lstore 8, 2) := dk_55 8 (dk_at dksX0_payAll_4 3 rfl rfl)
theorem dX0_payAll_100 : decode cX0_payAll 100 = .ok (.iconst 0, 1) := dk_3 (dk_at dksX0_payAll_4 5 rfl rfl)
theorem dX0_payAll_101 : decode cX0_payAll 101 = .ok (.istore 10, 2) := dk_54 10 (dk_at dksX0_payAll_4 6 rfl rfl)
theorem dX0_payAll_103 : decode cX0_payAll 103 = .ok (.iload 10, 2) := dk_21 10 (dk_at dksX0_payAll_4 8 rfl rfl)
theorem dX0_payAll_105 : decode cX0_payAll 105 = .ok (.iload 6, 2) := dk_21 6 (dk_at dksX0_payAll_4 10 rfl rfl)
theorem dX0_payAll_107 : decode cX0_payAll 107 = .ok (.if_icmp .ge 69, 3) := dk_162 0 69 (dk_at dksX0_payAll_4 12 rfl rfl)
theorem dX0_payAll_110 : decode cX0_payAll 110 = .ok (.lload 8, 2) := dk_22 8 (dk_at dksX0_payAll_4 15 rfl rfl)
theorem dX0_payAll_112 : decode cX0_payAll 112 = .ok (.aload_n 0, 1) := dk_42 (dk_at dksX0_payAll_4 17 rfl rfl)
theorem dX0_payAll_113 : decode cX0_payAll 113 = .ok (.getfield 92, 3) := dk_180 0 92 (dk_at dksX0_payAll_4 18 rfl rfl)
theorem dX0_payAll_116 : decode cX0_payAll 116 = .ok (.aload_n 0, 1) := dk_42 (dk_at dksX0_payAll_4 21 rfl rfl)
theorem dX0_payAll_117 : decode cX0_payAll 117 = .ok (.getfield 131, 3) := dk_180 0 131 (dk_at dksX0_payAll_5 0 rfl rfl)
theorem dX0_payAll_120 : decode cX0_payAll 120 = .ok (.iload 10, 2) := dk_21 10 (dk_at dksX0_payAll_5 3 rfl rfl)
theorem dX0_payAll_122 : decode cX0_payAll 122 = .ok (.iaload, 1) := dk_46 (dk_at dksX0_payAll_5 5 rfl rfl)
theorem dX0_payAll_123 : decode cX0_payAll 123 = .ok (.invokeinterface 221 2, 5) := by decide +kernel
theorem dX0_payAll_128 : decode cX0_payAll 128 = .ok (.checkcast 440, 3) := dk_192 1 184 (dk_at dksX0_payAll_5 11 rfl rfl)
theorem dX0_payAll_131 : decode cX0_payAll 131 = .ok (.getfield 456, 3) := dk_180 1 200 (dk_at dksX0_payAll_5 14 rfl rfl)
theorem dX0_payAll_134 : decode cX0_payAll 134 = .ok (.sipush 365, 3) := dk_17 1 109 (dk_at dksX0_payAll_5 17 rfl rfl)
theorem dX0_payAll_137 : decode cX0_payAll 137 = .ok (.idiv, 1) := dk_108 (dk_at dksX0_payAll_5 20 rfl rfl)
theorem dX0_payAll_138 : decode cX0_payAll 138 = .ok (.aload 7, 2) := dk_25 7 (dk_at dksX0_payAll_5 21 rfl rfl)
theorem dX0_payAll_140 : decode cX0_payAll 140 = .ok (.getfield 456, 3) := dk_180 1 200 (dk_at dksX0_payAll_6 0 rfl rfl)
theorem dX0_payAll_143 : decode cX0_payAll 143 = .ok (.sipush 365, 3) := dk_17 1 109 (dk_at dksX0_payAll_6 3 rfl rfl)
theorem dX0_payAll_146 : decode cX0_payAll 146 = .ok (.idiv, 1) := dk_108 (dk_at dksX0_payAll_6 6 rfl rfl)
theorem dX0_payAll_147 : decode cX0_payAll 147 = .ok (.if_icmp .ne 19, 3) := dk_160 0 19 (dk_at dksX0_payAll_6 7 rfl rfl)
theorem dX0_payAll_150 : decode cX0_payAll 150 = .ok (.aload_n 0, 1) := dk_42 (dk_at dksX0_payAll_6 10 rfl rfl)
theorem dX0_payAll_151 : decode cX0_payAll 151 = .ok (.getfield 128, 3) := dk_180 0 128 (dk_at dksX0_payAll_6 11 rfl rfl)
theorem dX0_payAll_154 : decode cX0_payAll 154 = .ok (.aload_n 0, 1) := dk_42 (dk_at dksX0_payAll_6 14 rfl rfl)
theorem dX0_payAll_155 : decode cX0_payAll 155 = .ok (.getfield 131, 3) := dk_180 0 131 (dk_at dksX0_payAll_6 15 rfl rfl)
theorem dX0_payAll_158 : decode cX0_payAll 158 = .ok (.iload 10, 2) := dk_21 10 (dk_at dksX0_payAll_6 18 rfl rfl)
theorem dX0_payAll_160 : decode cX0_payAll 160 = .ok (.iaload, 1) := dk_46 (dk_at dksX0_payAll_6 20 rfl rfl)
theorem dX0_payAll_161 : decode cX0_payAll 161 = .ok (.iaload, 1) := dk_46 (dk_at dksX0_payAll_6 21 rfl rfl)
theorem dX0_payAll_162 : decode cX0_payAll 162 = .ok (.i2l, 1) := dk_133 (dk_at dksX0_payAll_6 22 rfl rfl)
theorem dX0_payAll_163 : decode cX0_payAll 163 = .ok (.goto 4, 3) := dk_167 0 4 (dk_at dksX0_payAll_7 0 rfl rfl)
theorem dX0_payAll_166 : decode cX0_payAll 166 = .ok (.lconst 0, 1) := dk_9 (dk_at dksX0_payAll_7 3 rfl rfl)
theorem dX0_payAll_167 : decode cX0_payAll 167 = .ok (.ladd, 1) := dk_97 (dk_at dksX0_payAll_7 4 rfl rfl)
theorem dX0_payAll_168 : decode cX0_payAll 168 = .ok (.lstore 8, 2) := dk_55 8 (dk_at dksX0_payAll_7 5 rfl rfl)
theorem dX0_payAll_170 : decode cX0_payAll 170 = .ok (.iinc 10 1, 3) := dk_132 10 1 (dk_at dksX0_payAll_7 7 rfl rfl)
theorem dX0_payAll_173 : decode cX0_payAll 173 = .ok (.goto (-70), 3) := dk_167 255 186 (dk_at dksX0_payAll_7 10 rfl rfl)
theorem dX0_payAll_176 : decode cX0_payAll 176 = .ok (.aload_n 0, 1) := dk_42 (dk_at dksX0_payAll_7 13 rfl rfl)
theorem dX0_payAll_177 : decode cX0_payAll 177 = .ok (.aload 7, 2) := dk_25 7 (dk_at dksX0_payAll_7 14 rfl rfl)
theorem dX0_payAll_179 : decode cX0_payAll 179 = .ok (.aload_n 0, 1) := dk_42 (dk_at dksX0_payAll_7 16 rfl rfl)
theorem dX0_payAll_180 : decode cX0_payAll 180 = .ok (.getfield 89, 3) := dk_180 0 89 (dk_at dksX0_payAll_7 17 rfl rfl)
theorem dX0_payAll_183 : decode cX0_payAll 183 = .ok (.iload_n 1, 1) := dk_27 (dk_at dksX0_payAll_7 20 rfl rfl)
theorem dX0_payAll_184 : decode cX0_payAll 184 = .ok (.iconst 1, 1) := dk_4 (dk_at dksX0_payAll_7 21 rfl rfl)
theorem dX0_payAll_185 : decode cX0_payAll 185 = .ok (.isub, 1) := dk_100 (dk_at dksX0_payAll_7 22 rfl rfl)
theorem dX0_payAll_186 : decode cX0_payAll 186 = .ok (.invokeinterface 221 2, 5) := by decide +kernel
theorem dX0_payAll_191 : decode cX0_payAll 191 = .ok (.checkcast 417, 3) := dk_192 1 161 (dk_at dksX0_payAll_8 5 rfl rfl)
theorem dX0_payAll_194 : decode cX0_payAll 194 = .ok (.iload_n 2, 1) := dk_28 (dk_at dksX0_payAll_8 8 rfl rfl)
theorem dX0_payAll_195 : decode cX0_payAll 195 = .ok (.lload 4, 2) := dk_22 4 (dk_at dksX0_payAll_8 9 rfl rfl)
theorem dX0_payAll_197 : decode cX0_payAll 197 = .ok (.lload 8, 2) := dk_22 8 (dk_at dksX0_payAll_8 11 rfl rfl)
theorem dX0_payAll_199 : decode cX0_payAll 199 = .ok (.invokevirtual 462, 3) := dk_182 1 206 (dk_at dksX0_payAll_8 13 rfl rfl)
theorem dX0_payAll_202 : decode cX0_payAll 202 = .ok (.lstore 10, 2) := dk_55 10 (dk_at dksX0_payAll_8 16 rfl rfl)
theorem dX0_payAll_204 : decode cX0_payAll 204 = .ok (.aload_n 0, 1) := dk_42 (dk_at dksX0_payAll_8 18 rfl rfl)
theorem dX0_payAll_205 : decode cX0_payAll 205 = .ok (.getfield 128, 3) := dk_180 0 128 (dk_at dksX0_payAll_8 19 rfl rfl)
theorem dX0_payAll_208 : decode cX0_payAll 208 = .ok (.aload_n 0, 1) := dk_42 (dk_at dksX0_payAll_8 22 rfl rfl)
theorem dX0_payAll_209 : decode cX0_payAll 209 = .ok (.getfield 131, 3) := dk_180 0 131 (dk_at dksX0_payAll_9 0 rfl rfl)
theorem dX0_payAll_212 : decode cX0_payAll 212 = .ok (.iload 6, 2) := dk_21 6 (dk_at dksX0_payAll_9 3 rfl rfl)
theorem dX0_payAll_214 : decode cX0_payAll 214 = .ok (.iaload, 1) := dk_46 (dk_at dksX0_payAll_9 5 rfl rfl)
theorem dX0_payAll_215 : decode cX0_payAll 215 = .ok (.lload 10, 2) := dk_22 10 (dk_at dksX0_payAll_9 6 rfl rfl)
theorem dX0_payAll_217 : decode cX0_payAll 217 = .ok (.l2i, 1) := dk_136 (dk_at dksX0_payAll_9 8 rfl rfl)
theorem dX0_payAll_218 : decode cX0_payAll 218 = .ok (.iastore, 1) := dk_79 (dk_at dksX0_payAll_9 9 rfl rfl)
theorem dX0_payAll_219 : decode cX0_payAll 219 = .ok (.lload 4, 2) := dk_22 4 (dk_at dksX0_payAll_9 10 rfl rfl)
theorem dX0_payAll_221 : decode cX0_payAll 221 = .ok (.lload 10, 2) := dk_22 10 (dk_at dksX0_payAll_9 12 rfl rfl)
theorem dX0_payAll_223 : decode cX0_payAll 223 = .ok (.ladd, 1) := dk_97 (dk_at dksX0_payAll_9 14 rfl rfl)
theorem dX0_payAll_224 : decode cX0_payAll 224 = .ok (.lstore 4, 2) := dk_55 4 (dk_at dksX0_payAll_9 15 rfl rfl)
theorem dX0_payAll_226 : decode cX0_payAll 226 = .ok (.iinc 6 1, 3) := dk_132 6 1 (dk_at dksX0_payAll_9 17 rfl rfl)
theorem dX0_payAll_229 : decode cX0_payAll 229 = .ok (.goto (-159), 3) := dk_167 255 97 (dk_at dksX0_payAll_9 20 rfl rfl)
theorem dX0_payAll_232 : decode cX0_payAll 232 = .ok (.return_, 1) := dk_177 (dk_at dksX0_payAll_9 23 rfl rfl)
abbrev cX0_walk : ByteArray := prog_1_method_39_code
def yX0_walk : MethodName := ⟨RX0, "walk", "(II)I"⟩
def dkwX0_walk_5 : List UInt8 := [132, 6, 255, 167, 255, 200, 42, 180, 0, 131, 21, 6, 21, 4, 79, 132, 4, 1, 167, 255, 128, 29, 172]
abbrev dktX0_walk_5 : List UInt8 := dkwX0_walk_5 ++ []
def dkwX0_walk_4 : List UInt8 := [25, 5, 180, 1, 200, 164, 0, 25, 42, 180, 0, 131, 21, 6, 42, 180, 0, 131, 21, 6, 4, 100, 46, 79]
abbrev dktX0_walk_4 : List UInt8 := dkwX0_walk_4 ++ dktX0_walk_5
def dkwX0_walk_3 : List UInt8 := [180, 0, 92, 42, 180, 0, 131, 21, 6, 4, 100, 46, 185, 0, 221, 2, 0, 192, 1, 184, 180, 1, 200]
abbrev dktX0_walk_3 : List UInt8 := dkwX0_walk_3 ++ dktX0_walk_4
def dkwX0_walk_2 : List UInt8 := [180, 1, 199, 28, 164, 0, 6, 167, 0, 77, 29, 132, 3, 1, 54, 6, 21, 6, 158, 0, 57, 42]
abbrev dktX0_walk_2 : List UInt8 := dkwX0_walk_2 ++ dktX0_walk_3
def dkwX0_walk_1 : List UInt8 := [21, 4, 185, 0, 221, 2, 0, 192, 1, 184, 58, 5, 25, 5, 180, 1, 196, 27, 160, 0, 89, 25, 5]
abbrev dktX0_walk_1 : List UInt8 := dkwX0_walk_1 ++ dktX0_walk_2
def dkwX0_walk_0 : List UInt8 := [3, 62, 3, 54, 4, 21, 4, 42, 180, 0, 92, 185, 0, 201, 1, 0, 162, 0, 120, 42, 180, 0, 92]
abbrev dktX0_walk_0 : List UInt8 := dkwX0_walk_0 ++ dktX0_walk_1
theorem dksX0_walk_0 : cX0_walk.data.toList.drop 0 = dktX0_walk_0 := by decide +kernel
theorem dksX0_walk_1 : cX0_walk.data.toList.drop 23 = dktX0_walk_1 := dk_seg dksX0_walk_0 23 rfl rfl
theorem dksX0_walk_2 : cX0_walk.data.toList.drop 46 = dktX0_walk_2 := dk_seg dksX0_walk_1 23 rfl rfl
theorem dksX0_walk_3 : cX0_walk.data.toList.drop 68 = dktX0_walk_3 := dk_seg dksX0_walk_2 22 rfl rfl
theorem dksX0_walk_4 : cX0_walk.data.toList.drop 91 = dktX0_walk_4 := dk_seg dksX0_walk_3 23 rfl rfl
theorem dksX0_walk_5 : cX0_walk.data.toList.drop 115 = dktX0_walk_5 := dk_seg dksX0_walk_4 24 rfl rfl
theorem dX0_walk_0 : decode cX0_walk 0 = .ok (.iconst 0, 1) := dk_3 (dk_at dksX0_walk_0 0 rfl rfl)
theorem dX0_walk_1 : decode cX0_walk 1 = .ok (.istore_n 3, 1) := dk_62 (dk_at dksX0_walk_0 1 rfl rfl)
theorem dX0_walk_2 : decode cX0_walk 2 = .ok (.iconst 0, 1) := dk_3 (dk_at dksX0_walk_0 2 rfl rfl)
theorem dX0_walk_3 : decode cX0_walk 3 = .ok (.istore 4, 2) := dk_54 4 (dk_at dksX0_walk_0 3 rfl rfl)
theorem dX0_walk_5 : decode cX0_walk 5 = .ok (.iload 4, 2) := dk_21 4 (dk_at dksX0_walk_0 5 rfl rfl)
theorem dX0_walk_7 : decode cX0_walk 7 = .ok (.aload_n 0, 1) := dk_42 (dk_at dksX0_walk_0 7 rfl rfl)
theorem dX0_walk_8 : decode cX0_walk 8 = .ok (.getfield 92, 3) := dk_180 0 92 (dk_at dksX0_walk_0 8 rfl rfl)
theorem dX0_walk_11 : decode cX0_walk 11 = .ok (.invokeinterface 201 1, 5) := by decide +kernel
theorem dX0_walk_16 : decode cX0_walk 16 = .ok (.if_icmp .ge 120, 3) := dk_162 0 120 (dk_at dksX0_walk_0 16 rfl rfl)
theorem dX0_walk_19 : decode cX0_walk 19 = .ok (.aload_n 0, 1) := dk_42 (dk_at dksX0_walk_0 19 rfl rfl)
theorem dX0_walk_20 : decode cX0_walk 20 = .ok (.getfield 92, 3) := dk_180 0 92 (dk_at dksX0_walk_0 20 rfl rfl)
theorem dX0_walk_23 : decode cX0_walk 23 = .ok (.iload 4, 2) := dk_21 4 (dk_at dksX0_walk_1 0 rfl rfl)
theorem dX0_walk_25 : decode cX0_walk 25 = .ok (.invokeinterface 221 2, 5) := by decide +kernel
theorem dX0_walk_30 : decode cX0_walk 30 = .ok (.checkcast 440, 3) := dk_192 1 184 (dk_at dksX0_walk_1 7 rfl rfl)
theorem dX0_walk_33 : decode cX0_walk 33 = .ok (.astore 5, 2) := dk_58 5 (dk_at dksX0_walk_1 10 rfl rfl)
theorem dX0_walk_35 : decode cX0_walk 35 = .ok (.aload 5, 2) := dk_25 5 (dk_at dksX0_walk_1 12 rfl rfl)
theorem dX0_walk_37 : decode cX0_walk 37 = .ok (.getfield 452, 3) := dk_180 1 196 (dk_at dksX0_walk_1 14 rfl rfl)
theorem dX0_walk_40 : decode cX0_walk 40 = .ok (.iload_n 1, 1) := dk_27 (dk_at dksX0_walk_1 17 rfl rfl)
theorem dX0_walk_41 : decode cX0_walk 41 = .ok (.if_icmp .ne 89, 3) := dk_160 0 89 (dk_at dksX0_walk_1 18 rfl rfl)
theorem dX0_walk_44 : decode cX0_walk 44 = .ok (.aload 5, 2) := dk_25 5 (dk_at dksX0_walk_1 21 rfl rfl)
theorem dX0_walk_46 : decode cX0_walk 46 = .ok (.getfield 455, 3) := dk_180 1 199 (dk_at dksX0_walk_2 0 rfl rfl)
theorem dX0_walk_49 : decode cX0_walk 49 = .ok (.iload_n 2, 1) := dk_28 (dk_at dksX0_walk_2 3 rfl rfl)
theorem dX0_walk_50 : decode cX0_walk 50 = .ok (.if_icmp .le 6, 3) := dk_164 0 6 (dk_at dksX0_walk_2 4 rfl rfl)
theorem dX0_walk_53 : decode cX0_walk 53 = .ok (.goto 77, 3) := dk_167 0 77 (dk_at dksX0_walk_2 7 rfl rfl)
theorem dX0_walk_56 : decode cX0_walk 56 = .ok (.iload_n 3, 1) := dk_29 (dk_at dksX0_walk_2 10 rfl rfl)
theorem dX0_walk_57 : decode cX0_walk 57 = .ok (.iinc 3 1, 3) := dk_132 3 1 (dk_at dksX0_walk_2 11 rfl rfl)
theorem dX0_walk_60 : decode cX0_walk 60 = .ok (.istore 6, 2) := dk_54 6 (dk_at dksX0_walk_2 14 rfl rfl)
theorem dX0_walk_62 : decode cX0_walk 62 = .ok (.iload 6, 2) := dk_21 6 (dk_at dksX0_walk_2 16 rfl rfl)
theorem dX0_walk_64 : decode cX0_walk 64 = .ok (.ifCond .le 57, 3) := dk_158 0 57 (dk_at dksX0_walk_2 18 rfl rfl)
theorem dX0_walk_67 : decode cX0_walk 67 = .ok (.aload_n 0, 1) := dk_42 (dk_at dksX0_walk_2 21 rfl rfl)
theorem dX0_walk_68 : decode cX0_walk 68 = .ok (.getfield 92, 3) := dk_180 0 92 (dk_at dksX0_walk_3 0 rfl rfl)
theorem dX0_walk_71 : decode cX0_walk 71 = .ok (.aload_n 0, 1) := dk_42 (dk_at dksX0_walk_3 3 rfl rfl)
theorem dX0_walk_72 : decode cX0_walk 72 = .ok (.getfield 131, 3) := dk_180 0 131 (dk_at dksX0_walk_3 4 rfl rfl)
theorem dX0_walk_75 : decode cX0_walk 75 = .ok (.iload 6, 2) := dk_21 6 (dk_at dksX0_walk_3 7 rfl rfl)
theorem dX0_walk_77 : decode cX0_walk 77 = .ok (.iconst 1, 1) := dk_4 (dk_at dksX0_walk_3 9 rfl rfl)
theorem dX0_walk_78 : decode cX0_walk 78 = .ok (.isub, 1) := dk_100 (dk_at dksX0_walk_3 10 rfl rfl)
theorem dX0_walk_79 : decode cX0_walk 79 = .ok (.iaload, 1) := dk_46 (dk_at dksX0_walk_3 11 rfl rfl)
theorem dX0_walk_80 : decode cX0_walk 80 = .ok (.invokeinterface 221 2, 5) := by decide +kernel
theorem dX0_walk_85 : decode cX0_walk 85 = .ok (.checkcast 440, 3) := dk_192 1 184 (dk_at dksX0_walk_3 17 rfl rfl)
theorem dX0_walk_88 : decode cX0_walk 88 = .ok (.getfield 456, 3) := dk_180 1 200 (dk_at dksX0_walk_3 20 rfl rfl)
theorem dX0_walk_91 : decode cX0_walk 91 = .ok (.aload 5, 2) := dk_25 5 (dk_at dksX0_walk_4 0 rfl rfl)
theorem dX0_walk_93 : decode cX0_walk 93 = .ok (.getfield 456, 3) := dk_180 1 200 (dk_at dksX0_walk_4 2 rfl rfl)
theorem dX0_walk_96 : decode cX0_walk 96 = .ok (.if_icmp .le 25, 3) := dk_164 0 25 (dk_at dksX0_walk_4 5 rfl rfl)
theorem dX0_walk_99 : decode cX0_walk 99 = .ok (.aload_n 0, 1) := dk_42 (dk_at dksX0_walk_4 8 rfl rfl)
theorem dX0_walk_100 : decode cX0_walk 100 = .ok (.getfield 131, 3) := dk_180 0 131 (dk_at dksX0_walk_4 9 rfl rfl)
theorem dX0_walk_103 : decode cX0_walk 103 = .ok (.iload 6, 2) := dk_21 6 (dk_at dksX0_walk_4 12 rfl rfl)
theorem dX0_walk_105 : decode cX0_walk 105 = .ok (.aload_n 0, 1) := dk_42 (dk_at dksX0_walk_4 14 rfl rfl)
theorem dX0_walk_106 : decode cX0_walk 106 = .ok (.getfield 131, 3) := dk_180 0 131 (dk_at dksX0_walk_4 15 rfl rfl)
theorem dX0_walk_109 : decode cX0_walk 109 = .ok (.iload 6, 2) := dk_21 6 (dk_at dksX0_walk_4 18 rfl rfl)
theorem dX0_walk_111 : decode cX0_walk 111 = .ok (.iconst 1, 1) := dk_4 (dk_at dksX0_walk_4 20 rfl rfl)
theorem dX0_walk_112 : decode cX0_walk 112 = .ok (.isub, 1) := dk_100 (dk_at dksX0_walk_4 21 rfl rfl)
theorem dX0_walk_113 : decode cX0_walk 113 = .ok (.iaload, 1) := dk_46 (dk_at dksX0_walk_4 22 rfl rfl)
theorem dX0_walk_114 : decode cX0_walk 114 = .ok (.iastore, 1) := dk_79 (dk_at dksX0_walk_4 23 rfl rfl)
theorem dX0_walk_115 : decode cX0_walk 115 = .ok (.iinc 6 (-1), 3) := dk_132 6 255 (dk_at dksX0_walk_5 0 rfl rfl)
theorem dX0_walk_118 : decode cX0_walk 118 = .ok (.goto (-56), 3) := dk_167 255 200 (dk_at dksX0_walk_5 3 rfl rfl)
theorem dX0_walk_121 : decode cX0_walk 121 = .ok (.aload_n 0, 1) := dk_42 (dk_at dksX0_walk_5 6 rfl rfl)
theorem dX0_walk_122 : decode cX0_walk 122 = .ok (.getfield 131, 3) := dk_180 0 131 (dk_at dksX0_walk_5 7 rfl rfl)
theorem dX0_walk_125 : decode cX0_walk 125 = .ok (.iload 6, 2) := dk_21 6 (dk_at dksX0_walk_5 10 rfl rfl)
theorem dX0_walk_127 : decode cX0_walk 127 = .ok (.iload 4, 2) := dk_21 4 (dk_at dksX0_walk_5 12 rfl rfl)
theorem dX0_walk_129 : decode cX0_walk 129 = .ok (.iastore, 1) := dk_79 (dk_at dksX0_walk_5 14 rfl rfl)
theorem dX0_walk_130 : decode cX0_walk 130 = .ok (.iinc 4 1, 3) := dk_132 4 1 (dk_at dksX0_walk_5 15 rfl rfl)
theorem dX0_walk_133 : decode cX0_walk 133 = .ok (.goto (-128), 3) := dk_167 255 128 (dk_at dksX0_walk_5 18 rfl rfl)
theorem dX0_walk_136 : decode cX0_walk 136 = .ok (.iload_n 3, 1) := dk_29 (dk_at dksX0_walk_5 21 rfl rfl)
theorem dX0_walk_137 : decode cX0_walk 137 = .ok (.ireturn, 1) := dk_172 (dk_at dksX0_walk_5 22 rfl rfl)
abbrev cX0_worth : ByteArray := prog_1_method_42_code
def yX0_worth : MethodName := ⟨RX0, "worth", "(LCoverHouse$Claim;LCoverHouse$Policy;IJJ)J"⟩
def dkwX0_worth_9 : List UInt8 := [173]
abbrev dktX0_worth_9 : List UInt8 := dkwX0_worth_9 ++ []
def dkwX0_worth_8 : List UInt8 := [22, 4, 184, 1, 219, 55, 10, 22, 10, 44, 4, 43, 180, 1, 200, 29, 182, 1, 181, 22, 4, 184, 1, 219]
abbrev dktX0_worth_8 : List UInt8 := dkwX0_worth_8 ++ dktX0_worth_9
def dkwX0_worth_7 : List UInt8 := [25, 9, 180, 1, 5, 4, 46, 22, 6, 184, 1, 219, 55, 10, 22, 10, 25, 9, 180, 1, 5, 5, 46]
abbrev dktX0_worth_7 : List UInt8 := dkwX0_worth_7 ++ dktX0_worth_8
def dkwX0_worth_6 : List UInt8 := [105, 20, 1, 159, 109, 55, 10, 22, 10, 25, 9, 180, 1, 5, 3, 46, 9, 184, 1, 219, 55, 10, 22, 10]
abbrev dktX0_worth_6 : List UInt8 := dkwX0_worth_6 ++ dktX0_worth_7
def dkwX0_worth_5 : List UInt8 := [55, 10, 22, 10, 25, 9, 180, 1, 2, 156, 0, 9, 17, 3, 232, 167, 0, 8, 25, 9, 180, 1, 2, 133]
abbrev dktX0_worth_5 : List UInt8 := dkwX0_worth_5 ++ dktX0_worth_6
def dkwX0_worth_4 : List UInt8 := [43, 180, 1, 192, 29, 3, 182, 1, 95, 3, 25, 9, 180, 0, 255, 184, 1, 217, 100, 133, 184, 1, 154]
abbrev dktX0_worth_4 : List UInt8 := dkwX0_worth_4 ++ dktX0_worth_5
def dkwX0_worth_3 : List UInt8 := [182, 1, 99, 42, 180, 0, 117, 42, 180, 0, 117, 180, 1, 106, 182, 1, 109, 4, 159, 0, 5, 9, 173, 9]
abbrev dktX0_worth_3 : List UInt8 := dkwX0_worth_3 ++ dktX0_worth_4
def dkwX0_worth_2 : List UInt8 := [154, 0, 5, 9, 173, 42, 21, 8, 182, 0, 229, 58, 9, 42, 180, 0, 117, 25, 9, 43, 180, 1, 213, 29]
abbrev dktX0_worth_2 : List UInt8 := dkwX0_worth_2 ++ dktX0_worth_3
def dkwX0_worth_1 : List UInt8 := [153, 0, 27, 21, 8, 153, 0, 22, 42, 21, 8, 182, 0, 229, 43, 180, 1, 213, 180, 1, 81, 182, 1, 28]
abbrev dktX0_worth_1 : List UInt8 := dkwX0_worth_1 ++ dktX0_worth_2
def dkwX0_worth_0 : List UInt8 := [44, 3, 43, 180, 1, 200, 29, 182, 1, 181, 54, 8, 44, 5, 43, 180, 1, 200, 29, 182, 1, 181]
abbrev dktX0_worth_0 : List UInt8 := dkwX0_worth_0 ++ dktX0_worth_1
theorem dksX0_worth_0 : cX0_worth.data.toList.drop 0 = dktX0_worth_0 := by decide +kernel
theorem dksX0_worth_1 : cX0_worth.data.toList.drop 22 = dktX0_worth_1 := dk_seg dksX0_worth_0 22 rfl rfl
theorem dksX0_worth_2 : cX0_worth.data.toList.drop 46 = dktX0_worth_2 := dk_seg dksX0_worth_1 24 rfl rfl
theorem dksX0_worth_3 : cX0_worth.data.toList.drop 70 = dktX0_worth_3 := dk_seg dksX0_worth_2 24 rfl rfl
theorem dksX0_worth_4 : cX0_worth.data.toList.drop 94 = dktX0_worth_4 := dk_seg dksX0_worth_3 24 rfl rfl
theorem dksX0_worth_5 : cX0_worth.data.toList.drop 117 = dktX0_worth_5 := dk_seg dksX0_worth_4 23 rfl rfl
theorem dksX0_worth_6 : cX0_worth.data.toList.drop 141 = dktX0_worth_6 := dk_seg dksX0_worth_5 24 rfl rfl
theorem dksX0_worth_7 : cX0_worth.data.toList.drop 165 = dktX0_worth_7 := dk_seg dksX0_worth_6 24 rfl rfl
theorem dksX0_worth_8 : cX0_worth.data.toList.drop 188 = dktX0_worth_8 := dk_seg dksX0_worth_7 23 rfl rfl
theorem dksX0_worth_9 : cX0_worth.data.toList.drop 212 = dktX0_worth_9 := dk_seg dksX0_worth_8 24 rfl rfl
theorem dX0_worth_0 : decode cX0_worth 0 = .ok (.aload_n 2, 1) := dk_44 (dk_at dksX0_worth_0 0 rfl rfl)
theorem dX0_worth_1 : decode cX0_worth 1 = .ok (.iconst 0, 1) := dk_3 (dk_at dksX0_worth_0 1 rfl rfl)
theorem dX0_worth_2 : decode cX0_worth 2 = .ok (.aload_n 1, 1) := dk_43 (dk_at dksX0_worth_0 2 rfl rfl)
theorem dX0_worth_3 : decode cX0_worth 3 = .ok (.getfield 456, 3) := dk_180 1 200 (dk_at dksX0_worth_0 3 rfl rfl)
theorem dX0_worth_6 : decode cX0_worth 6 = .ok (.iload_n 3, 1) := dk_29 (dk_at dksX0_worth_0 6 rfl rfl)
theorem dX0_worth_7 : decode cX0_worth 7 = .ok (.invokevirtual 437, 3) := dk_182 1 181 (dk_at dksX0_worth_0 7 rfl rfl)
theorem dX0_worth_10 : decode cX0_worth 10 = .ok (.istore 8, 2) := dk_54 8 (dk_at dksX0_worth_0 10 rfl rfl)
theorem dX0_worth_12 : decode cX0_worth 12 = .ok (.aload_n 2, 1) := dk_44 (dk_at dksX0_worth_0 12 rfl rfl)
theorem dX0_worth_13 : decode cX0_worth 13 = .ok (.iconst 2, 1) := dk_5 (dk_at dksX0_worth_0 13 rfl rfl)
theorem dX0_worth_14 : decode cX0_worth 14 = .ok (.aload_n 1, 1) := dk_43 (dk_at dksX0_worth_0 14 rfl rfl)
theorem dX0_worth_15 : decode cX0_worth 15 = .ok (.getfield 456, 3) := dk_180 1 200 (dk_at dksX0_worth_0 15 rfl rfl)
theorem dX0_worth_18 : decode cX0_worth 18 = .ok (.iload_n 3, 1) := dk_29 (dk_at dksX0_worth_0 18 rfl rfl)
theorem dX0_worth_19 : decode cX0_worth 19 = .ok (.invokevirtual 437, 3) := dk_182 1 181 (dk_at dksX0_worth_0 19 rfl rfl)
theorem dX0_worth_22 : decode cX0_worth 22 = .ok (.ifCond .eq 27, 3) := dk_153 0 27 (dk_at dksX0_worth_1 0 rfl rfl)
theorem dX0_worth_25 : decode cX0_worth 25 = .ok (.iload 8, 2) := dk_21 8 (dk_at dksX0_worth_1 3 rfl rfl)
theorem dX0_worth_27 : decode cX0_worth 27 = .ok (.ifCond .eq 22, 3) := dk_153 0 22 (dk_at dksX0_worth_1 5 rfl rfl)
theorem dX0_worth_30 : decode cX0_worth 30 = .ok (.aload_n 0, 1) := dk_42 (dk_at dksX0_worth_1 8 rfl rfl)
theorem dX0_worth_31 : decode cX0_worth 31 = .ok (.iload 8, 2) := dk_21 8 (dk_at dksX0_worth_1 9 rfl rfl)
theorem dX0_worth_33 : decode cX0_worth 33 = .ok (.invokevirtual 229, 3) := dk_182 0 229 (dk_at dksX0_worth_1 11 rfl rfl)
theorem dX0_worth_36 : decode cX0_worth 36 = .ok (.aload_n 1, 1) := dk_43 (dk_at dksX0_worth_1 14 rfl rfl)
theorem dX0_worth_37 : decode cX0_worth 37 = .ok (.getfield 469, 3) := dk_180 1 213 (dk_at dksX0_worth_1 15 rfl rfl)
theorem dX0_worth_40 : decode cX0_worth 40 = .ok (.getfield 337, 3) := dk_180 1 81 (dk_at dksX0_worth_1 18 rfl rfl)
theorem dX0_worth_43 : decode cX0_worth 43 = .ok (.invokevirtual 284, 3) := dk_182 1 28 (dk_at dksX0_worth_1 21 rfl rfl)
theorem dX0_worth_46 : decode cX0_worth 46 = .ok (.ifCond .ne 5, 3) := dk_154 0 5 (dk_at dksX0_worth_2 0 rfl rfl)
theorem dX0_worth_49 : decode cX0_worth 49 = .ok (.lconst 0, 1) := dk_9 (dk_at dksX0_worth_2 3 rfl rfl)
theorem dX0_worth_50 : decode cX0_worth 50 = .ok (.lreturn, 1) := dk_173 (dk_at dksX0_worth_2 4 rfl rfl)
theorem dX0_worth_51 : decode cX0_worth 51 = .ok (.aload_n 0, 1) := dk_42 (dk_at dksX0_worth_2 5 rfl rfl)
theorem dX0_worth_52 : decode cX0_worth 52 = .ok (.iload 8, 2) := dk_21 8 (dk_at dksX0_worth_2 6 rfl rfl)
theorem dX0_worth_54 : decode cX0_worth 54 = .ok (.invokevirtual 229, 3) := dk_182 0 229 (dk_at dksX0_worth_2 8 rfl rfl)
theorem dX0_worth_57 : decode cX0_worth 57 = .ok (.astore 9, 2) := dk_58 9 (dk_at dksX0_worth_2 11 rfl rfl)
theorem dX0_worth_59 : decode cX0_worth 59 = .ok (.aload_n 0, 1) := dk_42 (dk_at dksX0_worth_2 13 rfl rfl)
theorem dX0_worth_60 : decode cX0_worth 60 = .ok (.getfield 117, 3) := dk_180 0 117 (dk_at dksX0_worth_2 14 rfl rfl)
theorem dX0_worth_63 : decode cX0_worth 63 = .ok (.aload 9, 2) := dk_25 9 (dk_at dksX0_worth_2 17 rfl rfl)
theorem dX0_worth_65 : decode cX0_worth 65 = .ok (.aload_n 1, 1) := dk_43 (dk_at dksX0_worth_2 19 rfl rfl)
theorem dX0_worth_66 : decode cX0_worth 66 = .ok (.getfield 469, 3) := dk_180 1 213 (dk_at dksX0_worth_2 20 rfl rfl)
theorem dX0_worth_69 : decode cX0_worth 69 = .ok (.iload_n 3, 1) := dk_29 (dk_at dksX0_worth_2 23 rfl rfl)
theorem dX0_worth_70 : decode cX0_worth 70 = .ok (.invokevirtual 355, 3) := dk_182 1 99 (dk_at dksX0_worth_3 0 rfl rfl)
theorem dX0_worth_73 : decode cX0_worth 73 = .ok (.aload_n 0, 1) := dk_42 (dk_at dksX0_worth_3 3 rfl rfl)
theorem dX0_worth_74 : decode cX0_worth 74 = .ok (.getfield 117, 3) := dk_180 0 117 (dk_at dksX0_worth_3 4 rfl rfl)
theorem dX0_worth_77 : decode cX0_worth 77 = .ok (.aload_n 0, 1) := dk_42 (dk_at dksX0_worth_3 7 rfl rfl)
theorem dX0_worth_78 : decode cX0_worth 78 = .ok (.getfield 117, 3) := dk_180 0 117 (dk_at dksX0_worth_3 8 rfl rfl)
theorem dX0_worth_81 : decode cX0_worth 81 = .ok (.getfield 362, 3) := dk_180 1 106 (dk_at dksX0_worth_3 11 rfl rfl)
theorem dX0_worth_84 : decode cX0_worth 84 = .ok (.invokevirtual 365, 3) := dk_182 1 109 (dk_at dksX0_worth_3 14 rfl rfl)
theorem dX0_worth_87 : decode cX0_worth 87 = .ok (.iconst 1, 1) := dk_4 (dk_at dksX0_worth_3 17 rfl rfl)
theorem dX0_worth_88 : decode cX0_worth 88 = .ok (.if_icmp .eq 5, 3) := dk_159 0 5 (dk_at dksX0_worth_3 18 rfl rfl)
theorem dX0_worth_91 : decode cX0_worth 91 = .ok (.lconst 0, 1) := dk_9 (dk_at dksX0_worth_3 21 rfl rfl)
theorem dX0_worth_92 : decode cX0_worth 92 = .ok (.lreturn, 1) := dk_173 (dk_at dksX0_worth_3 22 rfl rfl)
theorem dX0_worth_93 : decode cX0_worth 93 = .ok (.lconst 0, 1) := dk_9 (dk_at dksX0_worth_3 23 rfl rfl)
theorem dX0_worth_94 : decode cX0_worth 94 = .ok (.aload_n 1, 1) := dk_43 (dk_at dksX0_worth_4 0 rfl rfl)
theorem dX0_worth_95 : decode cX0_worth 95 = .ok (.getfield 448, 3) := dk_180 1 192 (dk_at dksX0_worth_4 1 rfl rfl)
theorem dX0_worth_98 : decode cX0_worth 98 = .ok (.iload_n 3, 1) := dk_29 (dk_at dksX0_worth_4 4 rfl rfl)
theorem dX0_worth_99 : decode cX0_worth 99 = .ok (.iconst 0, 1) := dk_3 (dk_at dksX0_worth_4 5 rfl rfl)
theorem dX0_worth_100 : decode cX0_worth 100 = .ok (.invokevirtual 351, 3) := dk_182 1 95 (dk_at dksX0_worth_4 6 rfl rfl)
theorem dX0_worth_103 : decode cX0_worth 103 = .ok (.iconst 0, 1) := dk_3 (dk_at dksX0_worth_4 9 rfl rfl)
theorem dX0_worth_104 : decode cX0_worth 104 = .ok (.aload 9, 2) := dk_25 9 (dk_at dksX0_worth_4 10 rfl rfl)
theorem dX0_worth_106 : decode cX0_worth 106 = .ok (.getfield 255, 3) := dk_180 0 255 (dk_at dksX0_worth_4 12 rfl rfl)
theorem dX0_worth_109 : decode cX0_worth 109 = .ok (.invokestatic 473, 3) := dk_184 1 217 (dk_at dksX0_worth_4 15 rfl rfl)
theorem dX0_worth_112 : decode cX0_worth 112 = .ok (.isub, 1) := dk_100 (dk_at dksX0_worth_4 18 rfl rfl)
theorem dX0_worth_113 : decode cX0_worth 113 = .ok (.i2l, 1) := dk_133 (dk_at dksX0_worth_4 19 rfl rfl)
theorem dX0_worth_114 : decode cX0_worth 114 = .ok (.invokestatic 410, 3) := dk_184 1 154 (dk_at dksX0_worth_4 20 rfl rfl)
theorem dX0_worth_117 : decode cX0_worth 117 = .ok (.lstore 10, 2) := dk_55 10 (dk_at dksX0_worth_5 0 rfl rfl)
theorem dX0_worth_119 : decode cX0_worth 119 = .ok (.lload 10, 2) := dk_22 10 (dk_at dksX0_worth_5 2 rfl rfl)
theorem dX0_worth_121 : decode cX0_worth 121 = .ok (.aload 9, 2) := dk_25 9 (dk_at dksX0_worth_5 4 rfl rfl)
theorem dX0_worth_123 : decode cX0_worth 123 = .ok (.getfield 258, 3) := dk_180 1 2 (dk_at dksX0_worth_5 6 rfl rfl)
theorem dX0_worth_126 : decode cX0_worth 126 = .ok (.ifCond .ge 9, 3) := dk_156 0 9 (dk_at dksX0_worth_5 9 rfl rfl)
theorem dX0_worth_129 : decode cX0_worth 129 = .ok (.sipush 1000, 3) := dk_17 3 232 (dk_at dksX0_worth_5 12 rfl rfl)
theorem dX0_worth_132 : decode cX0_worth 132 = .ok (.goto 8, 3) := dk_167 0 8 (dk_at dksX0_worth_5 15 rfl rfl)
theorem dX0_worth_135 : decode cX0_worth 135 = .ok (.aload 9, 2) := dk_25 9 (dk_at dksX0_worth_5 18 rfl rfl)
theorem dX0_worth_137 : decode cX0_worth 137 = .ok (.getfield 258, 3) := dk_180 1 2 (dk_at dksX0_worth_5 20 rfl rfl)
theorem dX0_worth_140 : decode cX0_worth 140 = .ok (.i2l, 1) := dk_133 (dk_at dksX0_worth_5 23 rfl rfl)
theorem dX0_worth_141 : decode cX0_worth 141 = .ok (.lmul, 1) := dk_105 (dk_at dksX0_worth_6 0 rfl rfl)
theorem dX0_worth_142 : decode cX0_worth 142 = .ok (.ldc2_w 415, 3) := dk_20 1 159 (dk_at dksX0_worth_6 1 rfl rfl)
theorem dX0_worth_145 : decode cX0_worth 145 = .ok (.ldiv, 1) := dk_109 (dk_at dksX0_worth_6 4 rfl rfl)
theorem dX0_worth_146 : decode cX0_worth 146 = .ok (.lstore 10, 2) := dk_55 10 (dk_at dksX0_worth_6 5 rfl rfl)
theorem dX0_worth_148 : decode cX0_worth 148 = .ok (.lload 10, 2) := dk_22 10 (dk_at dksX0_worth_6 7 rfl rfl)
theorem dX0_worth_150 : decode cX0_worth 150 = .ok (.aload 9, 2) := dk_25 9 (dk_at dksX0_worth_6 9 rfl rfl)
theorem dX0_worth_152 : decode cX0_worth 152 = .ok (.getfield 261, 3) := dk_180 1 5 (dk_at dksX0_worth_6 11 rfl rfl)
theorem dX0_worth_155 : decode cX0_worth 155 = .ok (.iconst 0, 1) := dk_3 (dk_at dksX0_worth_6 14 rfl rfl)
theorem dX0_worth_156 : decode cX0_worth 156 = .ok (.iaload, 1) := dk_46 (dk_at dksX0_worth_6 15 rfl rfl)
theorem dX0_worth_157 : decode cX0_worth 157 = .ok (.lconst 0, 1) := dk_9 (dk_at dksX0_worth_6 16 rfl rfl)
theorem dX0_worth_158 : decode cX0_worth 158 = .ok (.invokestatic 475, 3) := dk_184 1 219 (dk_at dksX0_worth_6 17 rfl rfl)
theorem dX0_worth_161 : decode cX0_worth 161 = .ok (.lstore 10, 2) := dk_55 10 (dk_at dksX0_worth_6 20 rfl rfl)
theorem dX0_worth_163 : decode cX0_worth 163 = .ok (.lload 10, 2) := dk_22 10 (dk_at dksX0_worth_6 22 rfl rfl)
theorem dX0_worth_165 : decode cX0_worth 165 = .ok (.aload 9, 2) := dk_25 9 (dk_at dksX0_worth_7 0 rfl rfl)
theorem dX0_worth_167 : decode cX0_worth 167 = .ok (.getfield 261, 3) := dk_180 1 5 (dk_at dksX0_worth_7 2 rfl rfl)
theorem dX0_worth_170 : decode cX0_worth 170 = .ok (.iconst 1, 1) := dk_4 (dk_at dksX0_worth_7 5 rfl rfl)
theorem dX0_worth_171 : decode cX0_worth 171 = .ok (.iaload, 1) := dk_46 (dk_at dksX0_worth_7 6 rfl rfl)
theorem dX0_worth_172 : decode cX0_worth 172 = .ok (.lload 6, 2) := dk_22 6 (dk_at dksX0_worth_7 7 rfl rfl)
theorem dX0_worth_174 : decode cX0_worth 174 = .ok (.invokestatic 475, 3) := dk_184 1 219 (dk_at dksX0_worth_7 9 rfl rfl)
theorem dX0_worth_177 : decode cX0_worth 177 = .ok (.lstore 10, 2) := dk_55 10 (dk_at dksX0_worth_7 12 rfl rfl)
theorem dX0_worth_179 : decode cX0_worth 179 = .ok (.lload 10, 2) := dk_22 10 (dk_at dksX0_worth_7 14 rfl rfl)
theorem dX0_worth_181 : decode cX0_worth 181 = .ok (.aload 9, 2) := dk_25 9 (dk_at dksX0_worth_7 16 rfl rfl)
theorem dX0_worth_183 : decode cX0_worth 183 = .ok (.getfield 261, 3) := dk_180 1 5 (dk_at dksX0_worth_7 18 rfl rfl)
theorem dX0_worth_186 : decode cX0_worth 186 = .ok (.iconst 2, 1) := dk_5 (dk_at dksX0_worth_7 21 rfl rfl)
theorem dX0_worth_187 : decode cX0_worth 187 = .ok (.iaload, 1) := dk_46 (dk_at dksX0_worth_7 22 rfl rfl)
theorem dX0_worth_188 : decode cX0_worth 188 = .ok (.lload 4, 2) := dk_22 4 (dk_at dksX0_worth_8 0 rfl rfl)
theorem dX0_worth_190 : decode cX0_worth 190 = .ok (.invokestatic 475, 3) := dk_184 1 219 (dk_at dksX0_worth_8 2 rfl rfl)
theorem dX0_worth_193 : decode cX0_worth 193 = .ok (.lstore 10, 2) := dk_55 10 (dk_at dksX0_worth_8 5 rfl rfl)
theorem dX0_worth_195 : decode cX0_worth 195 = .ok (.lload 10, 2) := dk_22 10 (dk_at dksX0_worth_8 7 rfl rfl)
theorem dX0_worth_197 : decode cX0_worth 197 = .ok (.aload_n 2, 1) := dk_44 (dk_at dksX0_worth_8 9 rfl rfl)
theorem dX0_worth_198 : decode cX0_worth 198 = .ok (.iconst 1, 1) := dk_4 (dk_at dksX0_worth_8 10 rfl rfl)
theorem dX0_worth_199 : decode cX0_worth 199 = .ok (.aload_n 1, 1) := dk_43 (dk_at dksX0_worth_8 11 rfl rfl)
theorem dX0_worth_200 : decode cX0_worth 200 = .ok (.getfield 456, 3) := dk_180 1 200 (dk_at dksX0_worth_8 12 rfl rfl)
theorem dX0_worth_203 : decode cX0_worth 203 = .ok (.iload_n 3, 1) := dk_29 (dk_at dksX0_worth_8 15 rfl rfl)
theorem dX0_worth_204 : decode cX0_worth 204 = .ok (.invokevirtual 437, 3) := dk_182 1 181 (dk_at dksX0_worth_8 16 rfl rfl)
theorem dX0_worth_207 : decode cX0_worth 207 = .ok (.lload 4, 2) := dk_22 4 (dk_at dksX0_worth_8 19 rfl rfl)
theorem dX0_worth_209 : decode cX0_worth 209 = .ok (.invokestatic 475, 3) := dk_184 1 219 (dk_at dksX0_worth_8 21 rfl rfl)
theorem dX0_worth_212 : decode cX0_worth 212 = .ok (.lreturn, 1) := dk_173 (dk_at dksX0_worth_9 0 rfl rfl)
abbrev cX0_bounded : ByteArray := prog_1_method_41_code
def yX0_bounded : MethodName := ⟨RX0, "bounded", "(JIJ)J"⟩
def dkwX0_bounded_0 : List UInt8 := [28, 156, 0, 7, 30, 167, 0, 15, 9, 30, 28, 133, 33, 101, 184, 1, 210, 184, 1, 154, 173]
abbrev dktX0_bounded_0 : List UInt8 := dkwX0_bounded_0 ++ []
theorem dksX0_bounded_0 : cX0_bounded.data.toList.drop 0 = dktX0_bounded_0 := by decide +kernel
theorem dX0_bounded_0 : decode cX0_bounded 0 = .ok (.iload_n 2, 1) := dk_28 (dk_at dksX0_bounded_0 0 rfl rfl)
theorem dX0_bounded_1 : decode cX0_bounded 1 = .ok (.ifCond .ge 7, 3) := dk_156 0 7 (dk_at dksX0_bounded_0 1 rfl rfl)
theorem dX0_bounded_4 : decode cX0_bounded 4 = .ok (.lload_n 0, 1) := dk_30 (dk_at dksX0_bounded_0 4 rfl rfl)
theorem dX0_bounded_5 : decode cX0_bounded 5 = .ok (.goto 15, 3) := dk_167 0 15 (dk_at dksX0_bounded_0 5 rfl rfl)
theorem dX0_bounded_8 : decode cX0_bounded 8 = .ok (.lconst 0, 1) := dk_9 (dk_at dksX0_bounded_0 8 rfl rfl)
theorem dX0_bounded_9 : decode cX0_bounded 9 = .ok (.lload_n 0, 1) := dk_30 (dk_at dksX0_bounded_0 9 rfl rfl)
theorem dX0_bounded_10 : decode cX0_bounded 10 = .ok (.iload_n 2, 1) := dk_28 (dk_at dksX0_bounded_0 10 rfl rfl)
theorem dX0_bounded_11 : decode cX0_bounded 11 = .ok (.i2l, 1) := dk_133 (dk_at dksX0_bounded_0 11 rfl rfl)
theorem dX0_bounded_12 : decode cX0_bounded 12 = .ok (.lload_n 3, 1) := dk_33 (dk_at dksX0_bounded_0 12 rfl rfl)
theorem dX0_bounded_13 : decode cX0_bounded 13 = .ok (.lsub, 1) := dk_101 (dk_at dksX0_bounded_0 13 rfl rfl)
theorem dX0_bounded_14 : decode cX0_bounded 14 = .ok (.invokestatic 466, 3) := dk_184 1 210 (dk_at dksX0_bounded_0 14 rfl rfl)
theorem dX0_bounded_17 : decode cX0_bounded 17 = .ok (.invokestatic 410, 3) := dk_184 1 154 (dk_at dksX0_bounded_0 17 rfl rfl)
theorem dX0_bounded_20 : decode cX0_bounded 20 = .ok (.lreturn, 1) := dk_173 (dk_at dksX0_bounded_0 20 rfl rfl)
abbrev cX0_used : ByteArray := prog_1_method_44_code
def yX0_used : MethodName := ⟨RX0, "used", "(III)J"⟩
def dkwX0_used_5 : List UInt8 := [167, 255, 184, 22, 4, 173]
abbrev dktX0_used_5 : List UInt8 := dkwX0_used_5 ++ []
def dkwX0_used_4 : List UInt8 := [17, 1, 109, 108, 28, 160, 0, 16, 22, 4, 42, 180, 0, 128, 21, 6, 46, 133, 97, 55, 4, 132, 6, 1]
abbrev dktX0_used_4 : List UInt8 := dkwX0_used_4 ++ dktX0_used_5
def dkwX0_used_3 : List UInt8 := [192, 1, 184, 58, 7, 25, 7, 180, 1, 196, 27, 160, 0, 33, 28, 155, 0, 16, 25, 7, 180, 1, 200]
abbrev dktX0_used_3 : List UInt8 := dkwX0_used_3 ++ dktX0_used_4
def dkwX0_used_2 : List UInt8 := [42, 180, 0, 92, 185, 0, 201, 1, 0, 162, 0, 64, 42, 180, 0, 92, 21, 6, 185, 0, 221, 2, 0]
abbrev dktX0_used_2 : List UInt8 := dkwX0_used_2 ++ dktX0_used_3
def dkwX0_used_1 : List UInt8 := [184, 1, 87, 154, 0, 7, 20, 1, 228, 173, 42, 27, 29, 182, 1, 223, 9, 55, 4, 3, 54, 6, 21, 6]
abbrev dktX0_used_1 : List UInt8 := dkwX0_used_1 ++ dktX0_used_2
def dkwX0_used_0 : List UInt8 := [42, 27, 182, 1, 164, 154, 0, 7, 20, 1, 226, 173, 28, 2, 161, 0, 16, 28, 16, 27, 163, 0, 10, 29]
abbrev dktX0_used_0 : List UInt8 := dkwX0_used_0 ++ dktX0_used_1
theorem dksX0_used_0 : cX0_used.data.toList.drop 0 = dktX0_used_0 := by decide +kernel
theorem dksX0_used_1 : cX0_used.data.toList.drop 24 = dktX0_used_1 := dk_seg dksX0_used_0 24 rfl rfl
theorem dksX0_used_2 : cX0_used.data.toList.drop 48 = dktX0_used_2 := dk_seg dksX0_used_1 24 rfl rfl
theorem dksX0_used_3 : cX0_used.data.toList.drop 71 = dktX0_used_3 := dk_seg dksX0_used_2 23 rfl rfl
theorem dksX0_used_4 : cX0_used.data.toList.drop 94 = dktX0_used_4 := dk_seg dksX0_used_3 23 rfl rfl
theorem dksX0_used_5 : cX0_used.data.toList.drop 118 = dktX0_used_5 := dk_seg dksX0_used_4 24 rfl rfl
theorem dX0_used_0 : decode cX0_used 0 = .ok (.aload_n 0, 1) := dk_42 (dk_at dksX0_used_0 0 rfl rfl)
theorem dX0_used_1 : decode cX0_used 1 = .ok (.iload_n 1, 1) := dk_27 (dk_at dksX0_used_0 1 rfl rfl)
theorem dX0_used_2 : decode cX0_used 2 = .ok (.invokevirtual 420, 3) := dk_182 1 164 (dk_at dksX0_used_0 2 rfl rfl)
theorem dX0_used_5 : decode cX0_used 5 = .ok (.ifCond .ne 7, 3) := dk_154 0 7 (dk_at dksX0_used_0 5 rfl rfl)
theorem dX0_used_8 : decode cX0_used 8 = .ok (.ldc2_w 482, 3) := dk_20 1 226 (dk_at dksX0_used_0 8 rfl rfl)
theorem dX0_used_11 : decode cX0_used 11 = .ok (.lreturn, 1) := dk_173 (dk_at dksX0_used_0 11 rfl rfl)
theorem dX0_used_12 : decode cX0_used 12 = .ok (.iload_n 2, 1) := dk_28 (dk_at dksX0_used_0 12 rfl rfl)
theorem dX0_used_13 : decode cX0_used 13 = .ok (.iconst (-1), 1) := dk_2 (dk_at dksX0_used_0 13 rfl rfl)
theorem dX0_used_14 : decode cX0_used 14 = .ok (.if_icmp .lt 16, 3) := dk_161 0 16 (dk_at dksX0_used_0 14 rfl rfl)
theorem dX0_used_17 : decode cX0_used 17 = .ok (.iload_n 2, 1) := dk_28 (dk_at dksX0_used_0 17 rfl rfl)
theorem dX0_used_18 : decode cX0_used 18 = .ok (.bipush 27, 2) := dk_16 27 (dk_at dksX0_used_0 18 rfl rfl)
theorem dX0_used_20 : decode cX0_used 20 = .ok (.if_icmp .gt 10, 3) := dk_163 0 10 (dk_at dksX0_used_0 20 rfl rfl)
theorem dX0_used_23 : decode cX0_used 23 = .ok (.iload_n 3, 1) := dk_29 (dk_at dksX0_used_0 23 rfl rfl)
theorem dX0_used_24 : decode cX0_used 24 = .ok (.invokestatic 343, 3) := dk_184 1 87 (dk_at dksX0_used_1 0 rfl rfl)
theorem dX0_used_27 : decode cX0_used 27 = .ok (.ifCond .ne 7, 3) := dk_154 0 7 (dk_at dksX0_used_1 3 rfl rfl)
theorem dX0_used_30 : decode cX0_used 30 = .ok (.ldc2_w 484, 3) := dk_20 1 228 (dk_at dksX0_used_1 6 rfl rfl)
theorem dX0_used_33 : decode cX0_used 33 = .ok (.lreturn, 1) := dk_173 (dk_at dksX0_used_1 9 rfl rfl)
theorem dX0_used_34 : decode cX0_used 34 = .ok (.aload_n 0, 1) := dk_42 (dk_at dksX0_used_1 10 rfl rfl)
theorem dX0_used_35 : decode cX0_used 35 = .ok (.iload_n 1, 1) := dk_27 (dk_at dksX0_used_1 11 rfl rfl)
theorem dX0_used_36 : decode cX0_used 36 = .ok (.iload_n 3, 1) := dk_29 (dk_at dksX0_used_1 12 rfl rfl)
theorem dX0_used_37 : decode cX0_used 37 = .ok (.invokevirtual 479, 3) := dk_182 1 223 (dk_at dksX0_used_1 13 rfl rfl)
theorem dX0_used_40 : decode cX0_used 40 = .ok (.lconst 0, 1) := dk_9 (dk_at dksX0_used_1 16 rfl rfl)
theorem dX0_used_41 : decode cX0_used 41 = .ok (.lstore 4, 2) := dk_55 4 (dk_at dksX0_used_1 17 rfl rfl)
theorem dX0_used_43 : decode cX0_used 43 = .ok (.iconst 0, 1) := dk_3 (dk_at dksX0_used_1 19 rfl rfl)
theorem dX0_used_44 : decode cX0_used 44 = .ok (.istore 6, 2) := dk_54 6 (dk_at dksX0_used_1 20 rfl rfl)
theorem dX0_used_46 : decode cX0_used 46 = .ok (.iload 6, 2) := dk_21 6 (dk_at dksX0_used_1 22 rfl rfl)
theorem dX0_used_48 : decode cX0_used 48 = .ok (.aload_n 0, 1) := dk_42 (dk_at dksX0_used_2 0 rfl rfl)
theorem dX0_used_49 : decode cX0_used 49 = .ok (.getfield 92, 3) := dk_180 0 92 (dk_at dksX0_used_2 1 rfl rfl)
theorem dX0_used_52 : decode cX0_used 52 = .ok (.invokeinterface 201 1, 5) := by decide +kernel
theorem dX0_used_57 : decode cX0_used 57 = .ok (.if_icmp .ge 64, 3) := dk_162 0 64 (dk_at dksX0_used_2 9 rfl rfl)
theorem dX0_used_60 : decode cX0_used 60 = .ok (.aload_n 0, 1) := dk_42 (dk_at dksX0_used_2 12 rfl rfl)
theorem dX0_used_61 : decode cX0_used 61 = .ok (.getfield 92, 3) := dk_180 0 92 (dk_at dksX0_used_2 13 rfl rfl)
theorem dX0_used_64 : decode cX0_used 64 = .ok (.iload 6, 2) := dk_21 6 (dk_at dksX0_used_2 16 rfl rfl)
theorem dX0_used_66 : decode cX0_used 66 = .ok (.invokeinterface 221 2, 5) := by decide +kernel
theorem dX0_used_71 : decode cX0_used 71 = .ok (.checkcast 440, 3) := dk_192 1 184 (dk_at dksX0_used_3 0 rfl rfl)
theorem dX0_used_74 : decode cX0_used 74 = .ok (.astore 7, 2) := dk_58 7 (dk_at dksX0_used_3 3 rfl rfl)
theorem dX0_used_76 : decode cX0_used 76 = .ok (.aload 7, 2) := dk_25 7 (dk_at dksX0_used_3 5 rfl rfl)
theorem dX0_used_78 : decode cX0_used 78 = .ok (.getfield 452, 3) := dk_180 1 196 (dk_at dksX0_used_3 7 rfl rfl)
theorem dX0_used_81 : decode cX0_used 81 = .ok (.iload_n 1, 1) := dk_27 (dk_at dksX0_used_3 10 rfl rfl)
theorem dX0_used_82 : decode cX0_used 82 = .ok (.if_icmp .ne 33, 3) := dk_160 0 33 (dk_at dksX0_used_3 11 rfl rfl)
theorem dX0_used_85 : decode cX0_used 85 = .ok (.iload_n 2, 1) := dk_28 (dk_at dksX0_used_3 14 rfl rfl)
theorem dX0_used_86 : decode cX0_used 86 = .ok (.ifCond .lt 16, 3) := dk_155 0 16 (dk_at dksX0_used_3 15 rfl rfl)
theorem dX0_used_89 : decode cX0_used 89 = .ok (.aload 7, 2) := dk_25 7 (dk_at dksX0_used_3 18 rfl rfl)
theorem dX0_used_91 : decode cX0_used 91 = .ok (.getfield 456, 3) := dk_180 1 200 (dk_at dksX0_used_3 20 rfl rfl)
theorem dX0_used_94 : decode cX0_used 94 = .ok (.sipush 365, 3) := dk_17 1 109 (dk_at dksX0_used_4 0 rfl rfl)
theorem dX0_used_97 : decode cX0_used 97 = .ok (.idiv, 1) := dk_108 (dk_at dksX0_used_4 3 rfl rfl)
theorem dX0_used_98 : decode cX0_used 98 = .ok (.iload_n 2, 1) := dk_28 (dk_at dksX0_used_4 4 rfl rfl)
theorem dX0_used_99 : decode cX0_used 99 = .ok (.if_icmp .ne 16, 3) := dk_160 0 16 (dk_at dksX0_used_4 5 rfl rfl)
theorem dX0_used_102 : decode cX0_used 102 = .ok (.lload 4, 2) := dk_22 4 (dk_at dksX0_used_4 8 rfl rfl)
theorem dX0_used_104 : decode cX0_used 104 = .ok (.aload_n 0, 1) := dk_42 (dk_at dksX0_used_4 10 rfl rfl)
theorem dX0_used_105 : decode cX0_used 105 = .ok (.getfield 128, 3) := dk_180 0 128 (dk_at dksX0_used_4 11 rfl rfl)
theorem dX0_used_108 : decode cX0_used 108 = .ok (.iload 6, 2) := dk_21 6 (dk_at dksX0_used_4 14 rfl rfl)
theorem dX0_used_110 : decode cX0_used 110 = .ok (.iaload, 1) := dk_46 (dk_at dksX0_used_4 16 rfl rfl)
theorem dX0_used_111 : decode cX0_used 111 = .ok (.i2l, 1) := dk_133 (dk_at dksX0_used_4 17 rfl rfl)
theorem dX0_used_112 : decode cX0_used 112 = .ok (.ladd, 1) := dk_97 (dk_at dksX0_used_4 18 rfl rfl)
theorem dX0_used_113 : decode cX0_used 113 = .ok (.lstore 4, 2) := dk_55 4 (dk_at dksX0_used_4 19 rfl rfl)
theorem dX0_used_115 : decode cX0_used 115 = .ok (.iinc 6 1, 3) := dk_132 6 1 (dk_at dksX0_used_4 21 rfl rfl)
theorem dX0_used_118 : decode cX0_used 118 = .ok (.goto (-72), 3) := dk_167 255 184 (dk_at dksX0_used_5 0 rfl rfl)
theorem dX0_used_121 : decode cX0_used 121 = .ok (.lload 4, 2) := dk_22 4 (dk_at dksX0_used_5 3 rfl rfl)
theorem dX0_used_123 : decode cX0_used 123 = .ok (.lreturn, 1) := dk_173 (dk_at dksX0_used_5 5 rfl rfl)
abbrev cX0_treaty : ByteArray := prog_1_method_45_code
def yX0_treaty : MethodName := ⟨RX0, "treaty", "(III)I"⟩
def dkwX0_treaty_4 : List UInt8 := [90, 4, 96, 181, 1, 230, 172]
abbrev dktX0_treaty_4 : List UInt8 := dkwX0_treaty_4 ++ []
def dkwX0_treaty_3 : List UInt8 := [180, 0, 99, 42, 180, 1, 230, 28, 79, 42, 180, 0, 102, 42, 180, 1, 230, 29, 79, 42, 89, 180, 1, 230]
abbrev dktX0_treaty_3 : List UInt8 := dkwX0_treaty_3 ++ dktX0_treaty_4
def dkwX0_treaty_2 : List UInt8 := [172, 42, 180, 1, 230, 16, 6, 160, 0, 6, 16, 252, 172, 42, 180, 0, 95, 42, 180, 1, 230, 27, 79, 42]
abbrev dktX0_treaty_2 : List UInt8 := dkwX0_treaty_2 ++ dktX0_treaty_3
def dkwX0_treaty_1 : List UInt8 := [19, 1, 167, 163, 0, 19, 27, 4, 160, 0, 17, 29, 155, 0, 10, 29, 19, 1, 167, 164, 0, 6, 16, 254]
abbrev dktX0_treaty_1 : List UInt8 := dkwX0_treaty_1 ++ dktX0_treaty_2
def dkwX0_treaty_0 : List UInt8 := [27, 155, 0, 45, 27, 4, 163, 0, 40, 28, 155, 0, 36, 28, 27, 154, 0, 9, 17, 3, 232, 167, 0, 6]
abbrev dktX0_treaty_0 : List UInt8 := dkwX0_treaty_0 ++ dktX0_treaty_1
theorem dksX0_treaty_0 : cX0_treaty.data.toList.drop 0 = dktX0_treaty_0 := by decide +kernel
theorem dksX0_treaty_1 : cX0_treaty.data.toList.drop 24 = dktX0_treaty_1 := dk_seg dksX0_treaty_0 24 rfl rfl
theorem dksX0_treaty_2 : cX0_treaty.data.toList.drop 48 = dktX0_treaty_2 := dk_seg dksX0_treaty_1 24 rfl rfl
theorem dksX0_treaty_3 : cX0_treaty.data.toList.drop 72 = dktX0_treaty_3 := dk_seg dksX0_treaty_2 24 rfl rfl
theorem dksX0_treaty_4 : cX0_treaty.data.toList.drop 96 = dktX0_treaty_4 := dk_seg dksX0_treaty_3 24 rfl rfl
theorem dX0_treaty_0 : decode cX0_treaty 0 = .ok (.iload_n 1, 1) := dk_27 (dk_at dksX0_treaty_0 0 rfl rfl)
theorem dX0_treaty_1 : decode cX0_treaty 1 = .ok (.ifCond .lt 45, 3) := dk_155 0 45 (dk_at dksX0_treaty_0 1 rfl rfl)
theorem dX0_treaty_4 : decode cX0_treaty 4 = .ok (.iload_n 1, 1) := dk_27 (dk_at dksX0_treaty_0 4 rfl rfl)
theorem dX0_treaty_5 : decode cX0_treaty 5 = .ok (.iconst 1, 1) := dk_4 (dk_at dksX0_treaty_0 5 rfl rfl)
theorem dX0_treaty_6 : decode cX0_treaty 6 = .ok (.if_icmp .gt 40, 3) := dk_163 0 40 (dk_at dksX0_treaty_0 6 rfl rfl)
theorem dX0_treaty_9 : decode cX0_treaty 9 = .ok (.iload_n 2, 1) := dk_28 (dk_at dksX0_treaty_0 9 rfl rfl)
theorem dX0_treaty_10 : decode cX0_treaty 10 = .ok (.ifCond .lt 36, 3) := dk_155 0 36 (dk_at dksX0_treaty_0 10 rfl rfl)
theorem dX0_treaty_13 : decode cX0_treaty 13 = .ok (.iload_n 2, 1) := dk_28 (dk_at dksX0_treaty_0 13 rfl rfl)
theorem dX0_treaty_14 : decode cX0_treaty 14 = .ok (.iload_n 1, 1) := dk_27 (dk_at dksX0_treaty_0 14 rfl rfl)
theorem dX0_treaty_15 : decode cX0_treaty 15 = .ok (.ifCond .ne 9, 3) := dk_154 0 9 (dk_at dksX0_treaty_0 15 rfl rfl)
theorem dX0_treaty_18 : decode cX0_treaty 18 = .ok (.sipush 1000, 3) := dk_17 3 232 (dk_at dksX0_treaty_0 18 rfl rfl)
theorem dX0_treaty_21 : decode cX0_treaty 21 = .ok (.goto 6, 3) := dk_167 0 6 (dk_at dksX0_treaty_0 21 rfl rfl)
theorem dX0_treaty_24 : decode cX0_treaty 24 = .ok (.ldc_w 423, 3) := dk_19 1 167 (dk_at dksX0_treaty_1 0 rfl rfl)
theorem dX0_treaty_27 : decode cX0_treaty 27 = .ok (.if_icmp .gt 19, 3) := dk_163 0 19 (dk_at dksX0_treaty_1 3 rfl rfl)
theorem dX0_treaty_30 : decode cX0_treaty 30 = .ok (.iload_n 1, 1) := dk_27 (dk_at dksX0_treaty_1 6 rfl rfl)
theorem dX0_treaty_31 : decode cX0_treaty 31 = .ok (.iconst 1, 1) := dk_4 (dk_at dksX0_treaty_1 7 rfl rfl)
theorem dX0_treaty_32 : decode cX0_treaty 32 = .ok (.if_icmp .ne 17, 3) := dk_160 0 17 (dk_at dksX0_treaty_1 8 rfl rfl)
theorem dX0_treaty_35 : decode cX0_treaty 35 = .ok (.iload_n 3, 1) := dk_29 (dk_at dksX0_treaty_1 11 rfl rfl)
theorem dX0_treaty_36 : decode cX0_treaty 36 = .ok (.ifCond .lt 10, 3) := dk_155 0 10 (dk_at dksX0_treaty_1 12 rfl rfl)
theorem dX0_treaty_39 : decode cX0_treaty 39 = .ok (.iload_n 3, 1) := dk_29 (dk_at dksX0_treaty_1 15 rfl rfl)
theorem dX0_treaty_40 : decode cX0_treaty 40 = .ok (.ldc_w 423, 3) := dk_19 1 167 (dk_at dksX0_treaty_1 16 rfl rfl)
theorem dX0_treaty_43 : decode cX0_treaty 43 = .ok (.if_icmp .le 6, 3) := dk_164 0 6 (dk_at dksX0_treaty_1 19 rfl rfl)
theorem dX0_treaty_46 : decode cX0_treaty 46 = .ok (.bipush (-2), 2) := dk_16 254 (dk_at dksX0_treaty_1 22 rfl rfl)
theorem dX0_treaty_48 : decode cX0_treaty 48 = .ok (.ireturn, 1) := dk_172 (dk_at dksX0_treaty_2 0 rfl rfl)
theorem dX0_treaty_49 : decode cX0_treaty 49 = .ok (.aload_n 0, 1) := dk_42 (dk_at dksX0_treaty_2 1 rfl rfl)
theorem dX0_treaty_50 : decode cX0_treaty 50 = .ok (.getfield 486, 3) := dk_180 1 230 (dk_at dksX0_treaty_2 2 rfl rfl)
theorem dX0_treaty_53 : decode cX0_treaty 53 = .ok (.bipush 6, 2) := dk_16 6 (dk_at dksX0_treaty_2 5 rfl rfl)
theorem dX0_treaty_55 : decode cX0_treaty 55 = .ok (.if_icmp .ne 6, 3) := dk_160 0 6 (dk_at dksX0_treaty_2 7 rfl rfl)
theorem dX0_treaty_58 : decode cX0_treaty 58 = .ok (.bipush (-4), 2) := dk_16 252 (dk_at dksX0_treaty_2 10 rfl rfl)
theorem dX0_treaty_60 : decode cX0_treaty 60 = .ok (.ireturn, 1) := dk_172 (dk_at dksX0_treaty_2 12 rfl rfl)
theorem dX0_treaty_61 : decode cX0_treaty 61 = .ok (.aload_n 0, 1) := dk_42 (dk_at dksX0_treaty_2 13 rfl rfl)
theorem dX0_treaty_62 : decode cX0_treaty 62 = .ok (.getfield 95, 3) := dk_180 0 95 (dk_at dksX0_treaty_2 14 rfl rfl)
theorem dX0_treaty_65 : decode cX0_treaty 65 = .ok (.aload_n 0, 1) := dk_42 (dk_at dksX0_treaty_2 17 rfl rfl)
theorem dX0_treaty_66 : decode cX0_treaty 66 = .ok (.getfield 486, 3) := dk_180 1 230 (dk_at dksX0_treaty_2 18 rfl rfl)
theorem dX0_treaty_69 : decode cX0_treaty 69 = .ok (.iload_n 1, 1) := dk_27 (dk_at dksX0_treaty_2 21 rfl rfl)
theorem dX0_treaty_70 : decode cX0_treaty 70 = .ok (.iastore, 1) := dk_79 (dk_at dksX0_treaty_2 22 rfl rfl)
theorem dX0_treaty_71 : decode cX0_treaty 71 = .ok (.aload_n 0, 1) := dk_42 (dk_at dksX0_treaty_2 23 rfl rfl)
theorem dX0_treaty_72 : decode cX0_treaty 72 = .ok (.getfield 99, 3) := dk_180 0 99 (dk_at dksX0_treaty_3 0 rfl rfl)
theorem dX0_treaty_75 : decode cX0_treaty 75 = .ok (.aload_n 0, 1) := dk_42 (dk_at dksX0_treaty_3 3 rfl rfl)
theorem dX0_treaty_76 : decode cX0_treaty 76 = .ok (.getfield 486, 3) := dk_180 1 230 (dk_at dksX0_treaty_3 4 rfl rfl)
theorem dX0_treaty_79 : decode cX0_treaty 79 = .ok (.iload_n 2, 1) := dk_28 (dk_at dksX0_treaty_3 7 rfl rfl)
theorem dX0_treaty_80 : decode cX0_treaty 80 = .ok (.iastore, 1) := dk_79 (dk_at dksX0_treaty_3 8 rfl rfl)
theorem dX0_treaty_81 : decode cX0_treaty 81 = .ok (.aload_n 0, 1) := dk_42 (dk_at dksX0_treaty_3 9 rfl rfl)
theorem dX0_treaty_82 : decode cX0_treaty 82 = .ok (.getfield 102, 3) := dk_180 0 102 (dk_at dksX0_treaty_3 10 rfl rfl)
theorem dX0_treaty_85 : decode cX0_treaty 85 = .ok (.aload_n 0, 1) := dk_42 (dk_at dksX0_treaty_3 13 rfl rfl)
theorem dX0_treaty_86 : decode cX0_treaty 86 = .ok (.getfield 486, 3) := dk_180 1 230 (dk_at dksX0_treaty_3 14 rfl rfl)
theorem dX0_treaty_89 : decode cX0_treaty 89 = .ok (.iload_n 3, 1) := dk_29 (dk_at dksX0_treaty_3 17 rfl rfl)
theorem dX0_treaty_90 : decode cX0_treaty 90 = .ok (.iastore, 1) := dk_79 (dk_at dksX0_treaty_3 18 rfl rfl)
theorem dX0_treaty_91 : decode cX0_treaty 91 = .ok (.aload_n 0, 1) := dk_42 (dk_at dksX0_treaty_3 19 rfl rfl)
theorem dX0_treaty_92 : decode cX0_treaty 92 = .ok (.dup, 1) := dk_89 (dk_at dksX0_treaty_3 20 rfl rfl)
theorem dX0_treaty_93 : decode cX0_treaty 93 = .ok (.getfield 486, 3) := dk_180 1 230 (dk_at dksX0_treaty_3 21 rfl rfl)
theorem dX0_treaty_96 : decode cX0_treaty 96 = .ok (.dup_x1, 1) := dk_90 (dk_at dksX0_treaty_4 0 rfl rfl)
theorem dX0_treaty_97 : decode cX0_treaty 97 = .ok (.iconst 1, 1) := dk_4 (dk_at dksX0_treaty_4 1 rfl rfl)
theorem dX0_treaty_98 : decode cX0_treaty 98 = .ok (.iadd, 1) := dk_96 (dk_at dksX0_treaty_4 2 rfl rfl)
theorem dX0_treaty_99 : decode cX0_treaty 99 = .ok (.putfield 486, 3) := dk_181 1 230 (dk_at dksX0_treaty_4 3 rfl rfl)
theorem dX0_treaty_102 : decode cX0_treaty 102 = .ok (.ireturn, 1) := dk_172 (dk_at dksX0_treaty_4 6 rfl rfl)
abbrev cX0_ceded : ByteArray := prog_1_method_47_code
def yX0_ceded : MethodName := ⟨RX0, "ceded", "(III)I"⟩
def dkwX0_ceded_2 : List UInt8 := [172]
abbrev dktX0_ceded_2 : List UInt8 := dkwX0_ceded_2 ++ []
def dkwX0_ceded_1 : List UInt8 := [27, 29, 182, 1, 235, 54, 4, 21, 4, 156, 0, 8, 21, 4, 167, 0, 10, 42, 21, 4, 28, 182, 1, 238]
abbrev dktX0_ceded_1 : List UInt8 := dkwX0_ceded_1 ++ dktX0_ceded_2
def dkwX0_ceded_0 : List UInt8 := [42, 27, 182, 1, 189, 153, 0, 16, 28, 2, 161, 0, 11, 28, 42, 180, 1, 230, 161, 0, 5, 2, 172, 42]
abbrev dktX0_ceded_0 : List UInt8 := dkwX0_ceded_0 ++ dktX0_ceded_1
theorem dksX0_ceded_0 : cX0_ceded.data.toList.drop 0 = dktX0_ceded_0 := by decide +kernel
theorem dksX0_ceded_1 : cX0_ceded.data.toList.drop 24 = dktX0_ceded_1 := dk_seg dksX0_ceded_0 24 rfl rfl
theorem dksX0_ceded_2 : cX0_ceded.data.toList.drop 48 = dktX0_ceded_2 := dk_seg dksX0_ceded_1 24 rfl rfl
theorem dX0_ceded_0 : decode cX0_ceded 0 = .ok (.aload_n 0, 1) := dk_42 (dk_at dksX0_ceded_0 0 rfl rfl)
theorem dX0_ceded_1 : decode cX0_ceded 1 = .ok (.iload_n 1, 1) := dk_27 (dk_at dksX0_ceded_0 1 rfl rfl)
theorem dX0_ceded_2 : decode cX0_ceded 2 = .ok (.invokevirtual 445, 3) := dk_182 1 189 (dk_at dksX0_ceded_0 2 rfl rfl)
theorem dX0_ceded_5 : decode cX0_ceded 5 = .ok (.ifCond .eq 16, 3) := dk_153 0 16 (dk_at dksX0_ceded_0 5 rfl rfl)
theorem dX0_ceded_8 : decode cX0_ceded 8 = .ok (.iload_n 2, 1) := dk_28 (dk_at dksX0_ceded_0 8 rfl rfl)
theorem dX0_ceded_9 : decode cX0_ceded 9 = .ok (.iconst (-1), 1) := dk_2 (dk_at dksX0_ceded_0 9 rfl rfl)
theorem dX0_ceded_10 : decode cX0_ceded 10 = .ok (.if_icmp .lt 11, 3) := dk_161 0 11 (dk_at dksX0_ceded_0 10 rfl rfl)
theorem dX0_ceded_13 : decode cX0_ceded 13 = .ok (.iload_n 2, 1) := dk_28 (dk_at dksX0_ceded_0 13 rfl rfl)
theorem dX0_ceded_14 : decode cX0_ceded 14 = .ok (.aload_n 0, 1) := dk_42 (dk_at dksX0_ceded_0 14 rfl rfl)
theorem dX0_ceded_15 : decode cX0_ceded 15 = .ok (.getfield 486, 3) := dk_180 1 230 (dk_at dksX0_ceded_0 15 rfl rfl)
theorem dX0_ceded_18 : decode cX0_ceded 18 = .ok (.if_icmp .lt 5, 3) := dk_161 0 5 (dk_at dksX0_ceded_0 18 rfl rfl)
theorem dX0_ceded_21 : decode cX0_ceded 21 = .ok (.iconst (-1), 1) := dk_2 (dk_at dksX0_ceded_0 21 rfl rfl)
theorem dX0_ceded_22 : decode cX0_ceded 22 = .ok (.ireturn, 1) := dk_172 (dk_at dksX0_ceded_0 22 rfl rfl)
theorem dX0_ceded_23 : decode cX0_ceded 23 = .ok (.aload_n 0, 1) := dk_42 (dk_at dksX0_ceded_0 23 rfl rfl)
theorem dX0_ceded_24 : decode cX0_ceded 24 = .ok (.iload_n 1, 1) := dk_27 (dk_at dksX0_ceded_1 0 rfl rfl)
theorem dX0_ceded_25 : decode cX0_ceded 25 = .ok (.iload_n 3, 1) := dk_29 (dk_at dksX0_ceded_1 1 rfl rfl)
theorem dX0_ceded_26 : decode cX0_ceded 26 = .ok (.invokevirtual 491, 3) := dk_182 1 235 (dk_at dksX0_ceded_1 2 rfl rfl)
theorem dX0_ceded_29 : decode cX0_ceded 29 = .ok (.istore 4, 2) := dk_54 4 (dk_at dksX0_ceded_1 5 rfl rfl)
theorem dX0_ceded_31 : decode cX0_ceded 31 = .ok (.iload 4, 2) := dk_21 4 (dk_at dksX0_ceded_1 7 rfl rfl)
theorem dX0_ceded_33 : decode cX0_ceded 33 = .ok (.ifCond .ge 8, 3) := dk_156 0 8 (dk_at dksX0_ceded_1 9 rfl rfl)
theorem dX0_ceded_36 : decode cX0_ceded 36 = .ok (.iload 4, 2) := dk_21 4 (dk_at dksX0_ceded_1 12 rfl rfl)
theorem dX0_ceded_38 : decode cX0_ceded 38 = .ok (.goto 10, 3) := dk_167 0 10 (dk_at dksX0_ceded_1 14 rfl rfl)
theorem dX0_ceded_41 : decode cX0_ceded 41 = .ok (.aload_n 0, 1) := dk_42 (dk_at dksX0_ceded_1 17 rfl rfl)
theorem dX0_ceded_42 : decode cX0_ceded 42 = .ok (.iload 4, 2) := dk_21 4 (dk_at dksX0_ceded_1 18 rfl rfl)
theorem dX0_ceded_44 : decode cX0_ceded 44 = .ok (.iload_n 2, 1) := dk_28 (dk_at dksX0_ceded_1 20 rfl rfl)
theorem dX0_ceded_45 : decode cX0_ceded 45 = .ok (.invokevirtual 494, 3) := dk_182 1 238 (dk_at dksX0_ceded_1 21 rfl rfl)
theorem dX0_ceded_48 : decode cX0_ceded 48 = .ok (.ireturn, 1) := dk_172 (dk_at dksX0_ceded_2 0 rfl rfl)
abbrev cX0_taken : ByteArray := prog_1_method_46_code
def yX0_taken : MethodName := ⟨RX0, "taken", "(II)I"⟩
def dkwX0_taken_3 : List UInt8 := [160, 0, 7, 22, 5, 136, 172, 29, 22, 5, 136, 100, 62, 132, 4, 1, 167, 255, 174, 29, 172]
abbrev dktX0_taken_3 : List UInt8 := dkwX0_taken_3 ++ []
def dkwX0_taken_2 : List UInt8 := [46, 3, 29, 42, 180, 0, 99, 21, 4, 46, 100, 184, 1, 217, 184, 1, 233, 133, 55, 5, 21, 4, 28]
abbrev dktX0_taken_2 : List UInt8 := dkwX0_taken_2 ++ dktX0_taken_3
def dkwX0_taken_1 : List UInt8 := [29, 133, 42, 180, 0, 99, 21, 4, 46, 133, 105, 20, 1, 159, 109, 167, 0, 27, 42, 180, 0, 102, 21, 4]
abbrev dktX0_taken_1 : List UInt8 := dkwX0_taken_1 ++ dktX0_taken_2
def dkwX0_taken_0 : List UInt8 := [27, 62, 3, 54, 4, 21, 4, 42, 180, 1, 230, 162, 0, 79, 42, 180, 0, 95, 21, 4, 46, 154, 0, 21]
abbrev dktX0_taken_0 : List UInt8 := dkwX0_taken_0 ++ dktX0_taken_1
theorem dksX0_taken_0 : cX0_taken.data.toList.drop 0 = dktX0_taken_0 := by decide +kernel
theorem dksX0_taken_1 : cX0_taken.data.toList.drop 24 = dktX0_taken_1 := dk_seg dksX0_taken_0 24 rfl rfl
theorem dksX0_taken_2 : cX0_taken.data.toList.drop 48 = dktX0_taken_2 := dk_seg dksX0_taken_1 24 rfl rfl
theorem dksX0_taken_3 : cX0_taken.data.toList.drop 71 = dktX0_taken_3 := dk_seg dksX0_taken_2 23 rfl rfl
theorem dX0_taken_0 : decode cX0_taken 0 = .ok (.iload_n 1, 1) := dk_27 (dk_at dksX0_taken_0 0 rfl rfl)
theorem dX0_taken_1 : decode cX0_taken 1 = .ok (.istore_n 3, 1) := dk_62 (dk_at dksX0_taken_0 1 rfl rfl)
theorem dX0_taken_2 : decode cX0_taken 2 = .ok (.iconst 0, 1) := dk_3 (dk_at dksX0_taken_0 2 rfl rfl)
theorem dX0_taken_3 : decode cX0_taken 3 = .ok (.istore 4, 2) := dk_54 4 (dk_at dksX0_taken_0 3 rfl rfl)
theorem dX0_taken_5 : decode cX0_taken 5 = .ok (.iload 4, 2) := dk_21 4 (dk_at dksX0_taken_0 5 rfl rfl)
theorem dX0_taken_7 : decode cX0_taken 7 = .ok (.aload_n 0, 1) := dk_42 (dk_at dksX0_taken_0 7 rfl rfl)
theorem dX0_taken_8 : decode cX0_taken 8 = .ok (.getfield 486, 3) := dk_180 1 230 (dk_at dksX0_taken_0 8 rfl rfl)
theorem dX0_taken_11 : decode cX0_taken 11 = .ok (.if_icmp .ge 79, 3) := dk_162 0 79 (dk_at dksX0_taken_0 11 rfl rfl)
theorem dX0_taken_14 : decode cX0_taken 14 = .ok (.aload_n 0, 1) := dk_42 (dk_at dksX0_taken_0 14 rfl rfl)
theorem dX0_taken_15 : decode cX0_taken 15 = .ok (.getfield 95, 3) := dk_180 0 95 (dk_at dksX0_taken_0 15 rfl rfl)
theorem dX0_taken_18 : decode cX0_taken 18 = .ok (.iload 4, 2) := dk_21 4 (dk_at dksX0_taken_0 18 rfl rfl)
theorem dX0_taken_20 : decode cX0_taken 20 = .ok (.iaload, 1) := dk_46 (dk_at dksX0_taken_0 20 rfl rfl)
theorem dX0_taken_21 : decode cX0_taken 21 = .ok (.ifCond .ne 21, 3) := dk_154 0 21 (dk_at dksX0_taken_0 21 rfl rfl)
theorem dX0_taken_24 : decode cX0_taken 24 = .ok (.iload_n 3, 1) := dk_29 (dk_at dksX0_taken_1 0 rfl rfl)
theorem dX0_taken_25 : decode cX0_taken 25 = .ok (.i2l, 1) := dk_133 (dk_at dksX0_taken_1 1 rfl rfl)
theorem dX0_taken_26 : decode cX0_taken 26 = .ok (.aload_n 0, 1) := dk_42 (dk_at dksX0_taken_1 2 rfl rfl)
theorem dX0_taken_27 : decode cX0_taken 27 = .ok (.getfield 99, 3) := dk_180 0 99 (dk_at dksX0_taken_1 3 rfl rfl)
theorem dX0_taken_30 : decode cX0_taken 30 = .ok (.iload 4, 2) := dk_21 4 (dk_at dksX0_taken_1 6 rfl rfl)
theorem dX0_taken_32 : decode cX0_taken 32 = .ok (.iaload, 1) := dk_46 (dk_at dksX0_taken_1 8 rfl rfl)
theorem dX0_taken_33 : decode cX0_taken 33 = .ok (.i2l, 1) := dk_133 (dk_at dksX0_taken_1 9 rfl rfl)
theorem dX0_taken_34 : decode cX0_taken 34 = .ok (.lmul, 1) := dk_105 (dk_at dksX0_taken_1 10 rfl rfl)
theorem dX0_taken_35 : decode cX0_taken 35 = .ok (.ldc2_w 415, 3) := dk_20 1 159 (dk_at dksX0_taken_1 11 rfl rfl)
theorem dX0_taken_38 : decode cX0_taken 38 = .ok (.ldiv, 1) := dk_109 (dk_at dksX0_taken_1 14 rfl rfl)
theorem dX0_taken_39 : decode cX0_taken 39 = .ok (.goto 27, 3) := dk_167 0 27 (dk_at dksX0_taken_1 15 rfl rfl)
theorem dX0_taken_42 : decode cX0_taken 42 = .ok (.aload_n 0, 1) := dk_42 (dk_at dksX0_taken_1 18 rfl rfl)
theorem dX0_taken_43 : decode cX0_taken 43 = .ok (.getfield 102, 3) := dk_180 0 102 (dk_at dksX0_taken_1 19 rfl rfl)
theorem dX0_taken_46 : decode cX0_taken 46 = .ok (.iload 4, 2) := dk_21 4 (dk_at dksX0_taken_1 22 rfl rfl)
theorem dX0_taken_48 : decode cX0_taken 48 = .ok (.iaload, 1) := dk_46 (dk_at dksX0_taken_2 0 rfl rfl)
theorem dX0_taken_49 : decode cX0_taken 49 = .ok (.iconst 0, 1) := dk_3 (dk_at dksX0_taken_2 1 rfl rfl)
theorem dX0_taken_50 : decode cX0_taken 50 = .ok (.iload_n 3, 1) := dk_29 (dk_at dksX0_taken_2 2 rfl rfl)
theorem dX0_taken_51 : decode cX0_taken 51 = .ok (.aload_n 0, 1) := dk_42 (dk_at dksX0_taken_2 3 rfl rfl)
theorem dX0_taken_52 : decode cX0_taken 52 = .ok (.getfield 99, 3) := dk_180 0 99 (dk_at dksX0_taken_2 4 rfl rfl)
theorem dX0_taken_55 : decode cX0_taken 55 = .ok (.iload 4, 2) := dk_21 4 (dk_at dksX0_taken_2 7 rfl rfl)
theorem dX0_taken_57 : decode cX0_taken 57 = .ok (.iaload, 1) := dk_46 (dk_at dksX0_taken_2 9 rfl rfl)
theorem dX0_taken_58 : decode cX0_taken 58 = .ok (.isub, 1) := dk_100 (dk_at dksX0_taken_2 10 rfl rfl)
theorem dX0_taken_59 : decode cX0_taken 59 = .ok (.invokestatic 473, 3) := dk_184 1 217 (dk_at dksX0_taken_2 11 rfl rfl)
theorem dX0_taken_62 : decode cX0_taken 62 = .ok (.invokestatic 489, 3) := dk_184 1 233 (dk_at dksX0_taken_2 14 rfl rfl)
theorem dX0_taken_65 : decode cX0_taken 65 = .ok (.i2l, 1) := dk_133 (dk_at dksX0_taken_2 17 rfl rfl)
theorem dX0_taken_66 : decode cX0_taken 66 = .ok (.lstore 5, 2) := dk_55 5 (dk_at dksX0_taken_2 18 rfl rfl)
theorem dX0_taken_68 : decode cX0_taken 68 = .ok (.iload 4, 2) := dk_21 4 (dk_at dksX0_taken_2 20 rfl rfl)
theorem dX0_taken_70 : decode cX0_taken 70 = .ok (.iload_n 2, 1) := dk_28 (dk_at dksX0_taken_2 22 rfl rfl)
theorem dX0_taken_71 : decode cX0_taken 71 = .ok (.if_icmp .ne 7, 3) := dk_160 0 7 (dk_at dksX0_taken_3 0 rfl rfl)
theorem dX0_taken_74 : decode cX0_taken 74 = .ok (.lload 5, 2) := dk_22 5 (dk_at dksX0_taken_3 3 rfl rfl)
theorem dX0_taken_76 : decode cX0_taken 76 = .ok (.l2i, 1) := dk_136 (dk_at dksX0_taken_3 5 rfl rfl)
theorem dX0_taken_77 : decode cX0_taken 77 = .ok (.ireturn, 1) := dk_172 (dk_at dksX0_taken_3 6 rfl rfl)
theorem dX0_taken_78 : decode cX0_taken 78 = .ok (.iload_n 3, 1) := dk_29 (dk_at dksX0_taken_3 7 rfl rfl)
theorem dX0_taken_79 : decode cX0_taken 79 = .ok (.lload 5, 2) := dk_22 5 (dk_at dksX0_taken_3 8 rfl rfl)
theorem dX0_taken_81 : decode cX0_taken 81 = .ok (.l2i, 1) := dk_136 (dk_at dksX0_taken_3 10 rfl rfl)
theorem dX0_taken_82 : decode cX0_taken 82 = .ok (.isub, 1) := dk_100 (dk_at dksX0_taken_3 11 rfl rfl)
theorem dX0_taken_83 : decode cX0_taken 83 = .ok (.istore_n 3, 1) := dk_62 (dk_at dksX0_taken_3 12 rfl rfl)
theorem dX0_taken_84 : decode cX0_taken 84 = .ok (.iinc 4 1, 3) := dk_132 4 1 (dk_at dksX0_taken_3 13 rfl rfl)
theorem dX0_taken_87 : decode cX0_taken 87 = .ok (.goto (-82), 3) := dk_167 255 174 (dk_at dksX0_taken_3 16 rfl rfl)
theorem dX0_taken_90 : decode cX0_taken 90 = .ok (.iload_n 3, 1) := dk_29 (dk_at dksX0_taken_3 19 rfl rfl)
theorem dX0_taken_91 : decode cX0_taken 91 = .ok (.ireturn, 1) := dk_172 (dk_at dksX0_taken_3 20 rfl rfl)
abbrev cX0_close : ByteArray := prog_1_method_49_code
def yX0_close : MethodName := ⟨RX0, "close", "(I)I"⟩
def dkwX0_close_13 : List UInt8 := [180, 1, 250, 21, 6, 96, 181, 1, 250, 132, 3, 1, 167, 255, 105, 28, 172]
abbrev dktX0_close_13 : List UInt8 := dkwX0_close_13 ++ []
def dkwX0_close_12 : List UInt8 := [21, 6, 116, 27, 182, 1, 253, 25, 4, 89, 180, 1, 247, 21, 5, 96, 181, 1, 247, 25, 4, 89]
abbrev dktX0_close_12 : List UInt8 := dkwX0_close_12 ++ dktX0_close_13
def dkwX0_close_11 : List UInt8 := [182, 1, 253, 21, 6, 153, 0, 26, 42, 29, 4, 96, 5, 21, 6, 27, 182, 1, 253, 42, 29, 4, 96, 6]
abbrev dktX0_close_11 : List UInt8 := dkwX0_close_11 ++ dktX0_close_12
def dkwX0_close_10 : List UInt8 := [153, 0, 26, 42, 29, 4, 96, 3, 21, 5, 116, 27, 182, 1, 253, 42, 29, 4, 96, 4, 21, 5, 27]
abbrev dktX0_close_10 : List UInt8 := dkwX0_close_10 ++ dktX0_close_11
def dkwX0_close_9 : List UInt8 := [46, 42, 42, 180, 0, 128, 29, 46, 2, 182, 1, 238, 100, 25, 4, 180, 1, 250, 100, 54, 6, 21, 5]
abbrev dktX0_close_9 : List UInt8 := dkwX0_close_9 ++ dktX0_close_10
def dkwX0_close_8 : List UInt8 := [192, 1, 184, 58, 4, 42, 180, 0, 128, 29, 46, 25, 4, 180, 1, 247, 100, 54, 5, 42, 180, 0, 128, 29]
abbrev dktX0_close_8 : List UInt8 := dkwX0_close_8 ++ dktX0_close_9
def dkwX0_close_7 : List UInt8 := [62, 29, 42, 180, 0, 92, 185, 0, 201, 1, 0, 162, 0, 144, 42, 180, 0, 92, 29, 185, 0, 221, 2, 0]
abbrev dktX0_close_7 : List UInt8 := dkwX0_close_7 ++ dktX0_close_8
def dkwX0_close_6 : List UInt8 := [167, 255, 171, 42, 180, 1, 241, 28, 96, 17, 1, 144, 164, 0, 6, 16, 252, 172, 42, 27, 181, 1, 244, 3]
abbrev dktX0_close_6 : List UInt8 := dkwX0_close_6 ++ dktX0_close_7
def dkwX0_close_5 : List UInt8 := [182, 1, 238, 100, 25, 4, 180, 1, 250, 159, 0, 7, 5, 167, 0, 4, 3, 96, 96, 61, 132, 3, 1]
abbrev dktX0_close_5 : List UInt8 := dkwX0_close_5 ++ dktX0_close_6
def dkwX0_close_4 : List UInt8 := [159, 0, 7, 5, 167, 0, 4, 3, 42, 180, 0, 128, 29, 46, 42, 42, 180, 0, 128, 29, 46, 2]
abbrev dktX0_close_4 : List UInt8 := dkwX0_close_4 ++ dktX0_close_5
def dkwX0_close_3 : List UInt8 := [185, 0, 221, 2, 0, 192, 1, 184, 58, 4, 28, 42, 180, 0, 128, 29, 46, 25, 4, 180, 1, 247]
abbrev dktX0_close_3 : List UInt8 := dkwX0_close_3 ++ dktX0_close_4
def dkwX0_close_2 : List UInt8 := [61, 3, 62, 29, 42, 180, 0, 92, 185, 0, 201, 1, 0, 162, 0, 78, 42, 180, 0, 92, 29]
abbrev dktX0_close_2 : List UInt8 := dkwX0_close_2 ++ dktX0_close_3
def dkwX0_close_1 : List UInt8 := [180, 0, 89, 185, 0, 201, 1, 0, 163, 0, 15, 42, 28, 27, 182, 1, 223, 132, 2, 1, 167, 255, 234, 3]
abbrev dktX0_close_1 : List UInt8 := dkwX0_close_1 ++ dktX0_close_2
def dkwX0_close_0 : List UInt8 := [27, 184, 1, 87, 153, 0, 11, 27, 42, 180, 1, 244, 162, 0, 6, 16, 254, 172, 4, 61, 28, 42]
abbrev dktX0_close_0 : List UInt8 := dkwX0_close_0 ++ dktX0_close_1
theorem dksX0_close_0 : cX0_close.data.toList.drop 0 = dktX0_close_0 := by decide +kernel
theorem dksX0_close_1 : cX0_close.data.toList.drop 22 = dktX0_close_1 := dk_seg dksX0_close_0 22 rfl rfl
theorem dksX0_close_2 : cX0_close.data.toList.drop 46 = dktX0_close_2 := dk_seg dksX0_close_1 24 rfl rfl
theorem dksX0_close_3 : cX0_close.data.toList.drop 67 = dktX0_close_3 := dk_seg dksX0_close_2 21 rfl rfl
theorem dksX0_close_4 : cX0_close.data.toList.drop 89 = dktX0_close_4 := dk_seg dksX0_close_3 22 rfl rfl
theorem dksX0_close_5 : cX0_close.data.toList.drop 111 = dktX0_close_5 := dk_seg dksX0_close_4 22 rfl rfl
theorem dksX0_close_6 : cX0_close.data.toList.drop 134 = dktX0_close_6 := dk_seg dksX0_close_5 23 rfl rfl
theorem dksX0_close_7 : cX0_close.data.toList.drop 158 = dktX0_close_7 := dk_seg dksX0_close_6 24 rfl rfl
theorem dksX0_close_8 : cX0_close.data.toList.drop 182 = dktX0_close_8 := dk_seg dksX0_close_7 24 rfl rfl
theorem dksX0_close_9 : cX0_close.data.toList.drop 206 = dktX0_close_9 := dk_seg dksX0_close_8 24 rfl rfl
theorem dksX0_close_10 : cX0_close.data.toList.drop 229 = dktX0_close_10 := dk_seg dksX0_close_9 23 rfl rfl
theorem dksX0_close_11 : cX0_close.data.toList.drop 252 = dktX0_close_11 := dk_seg dksX0_close_10 23 rfl rfl
theorem dksX0_close_12 : cX0_close.data.toList.drop 276 = dktX0_close_12 := dk_seg dksX0_close_11 24 rfl rfl
theorem dksX0_close_13 : cX0_close.data.toList.drop 298 = dktX0_close_13 := dk_seg dksX0_close_12 22 rfl rfl
theorem dX0_close_0 : decode cX0_close 0 = .ok (.iload_n 1, 1) := dk_27 (dk_at dksX0_close_0 0 rfl rfl)
theorem dX0_close_1 : decode cX0_close 1 = .ok (.invokestatic 343, 3) := dk_184 1 87 (dk_at dksX0_close_0 1 rfl rfl)
theorem dX0_close_4 : decode cX0_close 4 = .ok (.ifCond .eq 11, 3) := dk_153 0 11 (dk_at dksX0_close_0 4 rfl rfl)
theorem dX0_close_7 : decode cX0_close 7 = .ok (.iload_n 1, 1) := dk_27 (dk_at dksX0_close_0 7 rfl rfl)
theorem dX0_close_8 : decode cX0_close 8 = .ok (.aload_n 0, 1) := dk_42 (dk_at dksX0_close_0 8 rfl rfl)
theorem dX0_close_9 : decode cX0_close 9 = .ok (.getfield 500, 3) := dk_180 1 244 (dk_at dksX0_close_0 9 rfl rfl)
theorem dX0_close_12 : decode cX0_close 12 = .ok (.if_icmp .ge 6, 3) := dk_162 0 6 (dk_at dksX0_close_0 12 rfl rfl)
theorem dX0_close_15 : decode cX0_close 15 = .ok (.bipush (-2), 2) := dk_16 254 (dk_at dksX0_close_0 15 rfl rfl)
theorem dX0_close_17 : decode cX0_close 17 = .ok (.ireturn, 1) := dk_172 (dk_at dksX0_close_0 17 rfl rfl)
theorem dX0_close_18 : decode cX0_close 18 = .ok (.iconst 1, 1) := dk_4 (dk_at dksX0_close_0 18 rfl rfl)
theorem dX0_close_19 : decode cX0_close 19 = .ok (.istore_n 2, 1) := dk_61 (dk_at dksX0_close_0 19 rfl rfl)
theorem dX0_close_20 : decode cX0_close 20 = .ok (.iload_n 2, 1) := dk_28 (dk_at dksX0_close_0 20 rfl rfl)
theorem dX0_close_21 : decode cX0_close 21 = .ok (.aload_n 0, 1) := dk_42 (dk_at dksX0_close_0 21 rfl rfl)
theorem dX0_close_22 : decode cX0_close 22 = .ok (.getfield 89, 3) := dk_180 0 89 (dk_at dksX0_close_1 0 rfl rfl)
theorem dX0_close_25 : decode cX0_close 25 = .ok (.invokeinterface 201 1, 5) := by decide +kernel
theorem dX0_close_30 : decode cX0_close 30 = .ok (.if_icmp .gt 15, 3) := dk_163 0 15 (dk_at dksX0_close_1 8 rfl rfl)
theorem dX0_close_33 : decode cX0_close 33 = .ok (.aload_n 0, 1) := dk_42 (dk_at dksX0_close_1 11 rfl rfl)
theorem dX0_close_34 : decode cX0_close 34 = .ok (.iload_n 2, 1) := dk_28 (dk_at dksX0_close_1 12 rfl rfl)
theorem dX0_close_35 : decode cX0_close 35 = .ok (.iload_n 1, 1) := dk_27 (dk_at dksX0_close_1 13 rfl rfl)
theorem dX0_close_36 : decode cX0_close 36 = .ok (.invokevirtual 479, 3) := dk_182 1 223 (dk_at dksX0_close_1 14 rfl rfl)
theorem dX0_close_39 : decode cX0_close 39 = .ok (.iinc 2 1, 3) := dk_132 2 1 (dk_at dksX0_close_1 17 rfl rfl)
theorem dX0_close_42 : decode cX0_close 42 = .ok (.goto (-22), 3) := dk_167 255 234 (dk_at dksX0_close_1 20 rfl rfl)
theorem dX0_close_45 : decode cX0_close 45 = .ok (.iconst 0, 1) := dk_3 (dk_at dksX0_close_1 23 rfl rfl)
theorem dX0_close_46 : decode cX0_close 46 = .ok (.istore_n 2, 1) := dk_61 (dk_at dksX0_close_2 0 rfl rfl)
theorem dX0_close_47 : decode cX0_close 47 = .ok (.iconst 0, 1) := dk_3 (dk_at dksX0_close_2 1 rfl rfl)
theorem dX0_close_48 : decode cX0_close 48 = .ok (.istore_n 3, 1) := dk_62 (dk_at dksX0_close_2 2 rfl rfl)
theorem dX0_close_49 : decode cX0_close 49 = .ok (.iload_n 3, 1) := dk_29 (dk_at dksX0_close_2 3 rfl rfl)
theorem dX0_close_50 : decode cX0_close 50 = .ok (.aload_n 0, 1) := dk_42 (dk_at dksX0_close_2 4 rfl rfl)
theorem dX0_close_51 : decode cX0_close 51 = .ok (.getfield 92, 3) := dk_180 0 92 (dk_at dksX0_close_2 5 rfl rfl)
theorem dX0_close_54 : decode cX0_close 54 = .ok (.invokeinterface 201 1, 5) := by decide +kernel
theorem dX0_close_59 : decode cX0_close 59 = .ok (.if_icmp .ge 78, 3) := dk_162 0 78 (dk_at dksX0_close_2 13 rfl rfl)
theorem dX0_close_62 : decode cX0_close 62 = .ok (.aload_n 0, 1) := dk_42 (dk_at dksX0_close_2 16 rfl rfl)
theorem dX0_close_63 : decode cX0_close 63 = .ok (.getfield 92, 3) := dk_180 0 92 (dk_at dksX0_close_2 17 rfl rfl)
theorem dX0_close_66 : decode cX0_close 66 = .ok (.iload_n 3, 1) := dk_29 (dk_at dksX0_close_2 20 rfl rfl)
theorem dX0_close_67 : decode cX0_close 67 = .ok (.invokeinterface 221 2, 5) := by decide +kernel
theorem dX0_close_72 : decode cX0_close 72 = .ok (.checkcast 440, 3) := dk_192 1 184 (dk_at dksX0_close_3 5 rfl rfl)
theorem dX0_close_75 : decode cX0_close 75 = .ok (.astore 4, 2) := dk_58 4 (dk_at dksX0_close_3 8 rfl rfl)
theorem dX0_close_77 : decode cX0_close 77 = .ok (.iload_n 2, 1) := dk_28 (dk_at dksX0_close_3 10 rfl rfl)
theorem dX0_close_78 : decode cX0_close 78 = .ok (.aload_n 0, 1) := dk_42 (dk_at dksX0_close_3 11 rfl rfl)
theorem dX0_close_79 : decode cX0_close 79 = .ok (.getfield 128, 3) := dk_180 0 128 (dk_at dksX0_close_3 12 rfl rfl)
theorem dX0_close_82 : decode cX0_close 82 = .ok (.iload_n 3, 1) := dk_29 (dk_at dksX0_close_3 15 rfl rfl)
theorem dX0_close_83 : decode cX0_close 83 = .ok (.iaload, 1) := dk_46 (dk_at dksX0_close_3 16 rfl rfl)
theorem dX0_close_84 : decode cX0_close 84 = .ok (.aload 4, 2) := dk_25 4 (dk_at dksX0_close_3 17 rfl rfl)
theorem dX0_close_86 : decode cX0_close 86 = .ok (.getfield 503, 3) := dk_180 1 247 (dk_at dksX0_close_3 19 rfl rfl)
theorem dX0_close_89 : decode cX0_close 89 = .ok (.if_icmp .eq 7, 3) := dk_159 0 7 (dk_at dksX0_close_4 0 rfl rfl)
theorem dX0_close_92 : decode cX0_close 92 = .ok (.iconst 2, 1) := dk_5 (dk_at dksX0_close_4 3 rfl rfl)
theorem dX0_close_93 : decode cX0_close 93 = .ok (.goto 4, 3) := dk_167 0 4 (dk_at dksX0_close_4 4 rfl rfl)
theorem dX0_close_96 : decode cX0_close 96 = .ok (.iconst 0, 1) := dk_3 (dk_at dksX0_close_4 7 rfl rfl)
theorem dX0_close_97 : decode cX0_close 97 = .ok (.aload_n 0, 1) := dk_42 (dk_at dksX0_close_4 8 rfl rfl)
theorem dX0_close_98 : decode cX0_close 98 = .ok (.getfield 128, 3) := dk_180 0 128 (dk_at dksX0_close_4 9 rfl rfl)
theorem dX0_close_101 : decode cX0_close 101 = .ok (.iload_n 3, 1) := dk_29 (dk_at dksX0_close_4 12 rfl rfl)
theorem dX0_close_102 : decode cX0_close 102 = .ok (.iaload, 1) := dk_46 (dk_at dksX0_close_4 13 rfl rfl)
theorem dX0_close_103 : decode cX0_close 103 = .ok (.aload_n 0, 1) := dk_42 (dk_at dksX0_close_4 14 rfl rfl)
theorem dX0_close_104 : decode cX0_close 104 = .ok (.aload_n 0, 1) := dk_42 (dk_at dksX0_close_4 15 rfl rfl)
theorem dX0_close_105 : decode cX0_close 105 = .ok (.getfield 128, 3) := dk_180 0 128 (dk_at dksX0_close_4 16 rfl rfl)
theorem dX0_close_108 : decode cX0_close 108 = .ok (.iload_n 3, 1) := dk_29 (dk_at dksX0_close_4 19 rfl rfl)
theorem dX0_close_109 : decode cX0_close 109 = .ok (.iaload, 1) := dk_46 (dk_at dksX0_close_4 20 rfl rfl)
theorem dX0_close_110 : decode cX0_close 110 = .ok (.iconst (-1), 1) := dk_2 (dk_at dksX0_close_4 21 rfl rfl)
theorem dX0_close_111 : decode cX0_close 111 = .ok (.invokevirtual 494, 3) := dk_182 1 238 (dk_at dksX0_close_5 0 rfl rfl)
theorem dX0_close_114 : decode cX0_close 114 = .ok (.isub, 1) := dk_100 (dk_at dksX0_close_5 3 rfl rfl)
theorem dX0_close_115 : decode cX0_close 115 = .ok (.aload 4, 2) := dk_25 4 (dk_at dksX0_close_5 4 rfl rfl)
theorem dX0_close_117 : decode cX0_close 117 = .ok (.getfield 506, 3) := dk_180 1 250 (dk_at dksX0_close_5 6 rfl rfl)
theorem dX0_close_120 : decode cX0_close 120 = .ok (.if_icmp .eq 7, 3) := dk_159 0 7 (dk_at dksX0_close_5 9 rfl rfl)
theorem dX0_close_123 : decode cX0_close 123 = .ok (.iconst 2, 1) := dk_5 (dk_at dksX0_close_5 12 rfl rfl)
theorem dX0_close_124 : decode cX0_close 124 = .ok (.goto 4, 3) := dk_167 0 4 (dk_at dksX0_close_5 13 rfl rfl)
theorem dX0_close_127 : decode cX0_close 127 = .ok (.iconst 0, 1) := dk_3 (dk_at dksX0_close_5 16 rfl rfl)
theorem dX0_close_128 : decode cX0_close 128 = .ok (.iadd, 1) := dk_96 (dk_at dksX0_close_5 17 rfl rfl)
theorem dX0_close_129 : decode cX0_close 129 = .ok (.iadd, 1) := dk_96 (dk_at dksX0_close_5 18 rfl rfl)
theorem dX0_close_130 : decode cX0_close 130 = .ok (.istore_n 2, 1) := dk_61 (dk_at dksX0_close_5 19 rfl rfl)
theorem dX0_close_131 : decode cX0_close 131 = .ok (.iinc 3 1, 3) := dk_132 3 1 (dk_at dksX0_close_5 20 rfl rfl)
theorem dX0_close_134 : decode cX0_close 134 = .ok (.goto (-85), 3) := dk_167 255 171 (dk_at dksX0_close_6 0 rfl rfl)
theorem dX0_close_137 : decode cX0_close 137 = .ok (.aload_n 0, 1) := dk_42 (dk_at dksX0_close_6 3 rfl rfl)
theorem dX0_close_138 : decode cX0_close 138 = .ok (.getfield 497, 3) := dk_180 1 241 (dk_at dksX0_close_6 4 rfl rfl)
theorem dX0_close_141 : decode cX0_close 141 = .ok (.iload_n 2, 1) := dk_28 (dk_at dksX0_close_6 7 rfl rfl)
theorem dX0_close_142 : decode cX0_close 142 = .ok (.iadd, 1) := dk_96 (dk_at dksX0_close_6 8 rfl rfl)
theorem dX0_close_143 : decode cX0_close 143 = .ok (.sipush 400, 3) := dk_17 1 144 (dk_at dksX0_close_6 9 rfl rfl)
theorem dX0_close_146 : decode cX0_close 146 = .ok (.if_icmp .le 6, 3) := dk_164 0 6 (dk_at dksX0_close_6 12 rfl rfl)
theorem dX0_close_149 : decode cX0_close 149 = .ok (.bipush (-4), 2) := dk_16 252 (dk_at dksX0_close_6 15 rfl rfl)
theorem dX0_close_151 : decode cX0_close 151 = .ok (.ireturn, 1) := dk_172 (dk_at dksX0_close_6 17 rfl rfl)
theorem dX0_close_152 : decode cX0_close 152 = .ok (.aload_n 0, 1) := dk_42 (dk_at dksX0_close_6 18 rfl rfl)
theorem dX0_close_153 : decode cX0_close 153 = .ok (.iload_n 1, 1) := dk_27 (dk_at dksX0_close_6 19 rfl rfl)
theorem dX0_close_154 : decode cX0_close 154 = .ok (.putfield 500, 3) := dk_181 1 244 (dk_at dksX0_close_6 20 rfl rfl)
theorem dX0_close_157 : decode cX0_close 157 = .ok (.iconst 0, 1) := dk_3 (dk_at dksX0_close_6 23 rfl rfl)
theorem dX0_close_158 : decode cX0_close 158 = .ok (.istore_n 3, 1) := dk_62 (dk_at dksX0_close_7 0 rfl rfl)
theorem dX0_close_159 : decode cX0_close 159 = .ok (.iload_n 3, 1) := dk_29 (dk_at dksX0_close_7 1 rfl rfl)
theorem dX0_close_160 : decode cX0_close 160 = .ok (.aload_n 0, 1) := dk_42 (dk_at dksX0_close_7 2 rfl rfl)
theorem dX0_close_161 : decode cX0_close 161 = .ok (.getfield 92, 3) := dk_180 0 92 (dk_at dksX0_close_7 3 rfl rfl)
theorem dX0_close_164 : decode cX0_close 164 = .ok (.invokeinterface 201 1, 5) := by decide +kernel
theorem dX0_close_169 : decode cX0_close 169 = .ok (.if_icmp .ge 144, 3) := dk_162 0 144 (dk_at dksX0_close_7 11 rfl rfl)
theorem dX0_close_172 : decode cX0_close 172 = .ok (.aload_n 0, 1) := dk_42 (dk_at dksX0_close_7 14 rfl rfl)
theorem dX0_close_173 : decode cX0_close 173 = .ok (.getfield 92, 3) := dk_180 0 92 (dk_at dksX0_close_7 15 rfl rfl)
theorem dX0_close_176 : decode cX0_close 176 = .ok (.iload_n 3, 1) := dk_29 (dk_at dksX0_close_7 18 rfl rfl)
theorem dX0_close_177 : decode cX0_close 177 = .ok (.invokeinterface 221 2, 5) := by decide +kernel
theorem dX0_close_182 : decode cX0_close 182 = .ok (.checkcast 440, 3) := dk_192 1 184 (dk_at dksX0_close_8 0 rfl rfl)
theorem dX0_close_185 : decode cX0_close 185 = .ok (.astore 4, 2) := dk_58 4 (dk_at dksX0_close_8 3 rfl rfl)
theorem dX0_close_187 : decode cX0_close 187 = .ok (.aload_n 0, 1) := dk_42 (dk_at dksX0_close_8 5 rfl rfl)
theorem dX0_close_188 : decode cX0_close 188 = .ok (.getfield 128, 3) := dk_180 0 128 (dk_at dksX0_close_8 6 rfl rfl)
theorem dX0_close_191 : decode cX0_close 191 = .ok (.iload_n 3, 1) := dk_29 (dk_at dksX0_close_8 9 rfl rfl)
theorem dX0_close_192 : decode cX0_close 192 = .ok (.iaload, 1) := dk_46 (dk_at dksX0_close_8 10 rfl rfl)
theorem dX0_close_193 : decode cX0_close 193 = .ok (.aload 4, 2) := dk_25 4 (dk_at dksX0_close_8 11 rfl rfl)
theorem dX0_close_195 : decode cX0_close 195 = .ok (.getfield 503, 3) := dk_180 1 247 (dk_at dksX0_close_8 13 rfl rfl)
theorem dX0_close_198 : decode cX0_close 198 = .ok (.isub, 1) := dk_100 (dk_at dksX0_close_8 16 rfl rfl)
theorem dX0_close_199 : decode cX0_close 199 = .ok (.istore 5, 2) := dk_54 5 (dk_at dksX0_close_8 17 rfl rfl)
theorem dX0_close_201 : decode cX0_close 201 = .ok (.aload_n 0, 1) := dk_42 (dk_at dksX0_close_8 19 rfl rfl)
theorem dX0_close_202 : decode cX0_close 202 = .ok (.getfield 128, 3) := dk_180 0 128 (dk_at dksX0_close_8 20 rfl rfl)
theorem dX0_close_205 : decode cX0_close 205 = .ok (.iload_n 3, 1) := dk_29 (dk_at dksX0_close_8 23 rfl rfl)
theorem dX0_close_206 : decode cX0_close 206 = .ok (.iaload, 1) := dk_46 (dk_at dksX0_close_9 0 rfl rfl)
theorem dX0_close_207 : decode cX0_close 207 = .ok (.aload_n 0, 1) := dk_42 (dk_at dksX0_close_9 1 rfl rfl)
theorem dX0_close_208 : decode cX0_close 208 = .ok (.aload_n 0, 1) := dk_42 (dk_at dksX0_close_9 2 rfl rfl)
theorem dX0_close_209 : decode cX0_close 209 = .ok (.getfield 128, 3) := dk_180 0 128 (dk_at dksX0_close_9 3 rfl rfl)
theorem dX0_close_212 : decode cX0_close 212 = .ok (.iload_n 3, 1) := dk_29 (dk_at dksX0_close_9 6 rfl rfl)
theorem dX0_close_213 : decode cX0_close 213 = .ok (.iaload, 1) := dk_46 (dk_at dksX0_close_9 7 rfl rfl)
theorem dX0_close_214 : decode cX0_close 214 = .ok (.iconst (-1), 1) := dk_2 (dk_at dksX0_close_9 8 rfl rfl)
theorem dX0_close_215 : decode cX0_close 215 = .ok (.invokevirtual 494, 3) := dk_182 1 238 (dk_at dksX0_close_9 9 rfl rfl)
theorem dX0_close_218 : decode cX0_close 218 = .ok (.isub, 1) := dk_100 (dk_at dksX0_close_9 12 rfl rfl)
theorem dX0_close_219 : decode cX0_close 219 = .ok (.aload 4, 2) := dk_25 4 (dk_at dksX0_close_9 13 rfl rfl)
theorem dX0_close_221 : decode cX0_close 221 = .ok (.getfield 506, 3) := dk_180 1 250 (dk_at dksX0_close_9 15 rfl rfl)
theorem dX0_close_224 : decode cX0_close 224 = .ok (.isub, 1) := dk_100 (dk_at dksX0_close_9 18 rfl rfl)
theorem dX0_close_225 : decode cX0_close 225 = .ok (.istore 6, 2) := dk_54 6 (dk_at dksX0_close_9 19 rfl rfl)
theorem dX0_close_227 : decode cX0_close 227 = .ok (.iload 5, 2) := dk_21 5 (dk_at dksX0_close_9 21 rfl rfl)
theorem dX0_close_229 : decode cX0_close 229 = .ok (.ifCond .eq 26, 3) := dk_153 0 26 (dk_at dksX0_close_10 0 rfl rfl)
theorem dX0_close_232 : decode cX0_close 232 = .ok (.aload_n 0, 1) := dk_42 (dk_at dksX0_close_10 3 rfl rfl)
theorem dX0_close_233 : decode cX0_close 233 = .ok (.iload_n 3, 1) := dk_29 (dk_at dksX0_close_10 4 rfl rfl)
theorem dX0_close_234 : decode cX0_close 234 = .ok (.iconst 1, 1) := dk_4 (dk_at dksX0_close_10 5 rfl rfl)
theorem dX0_close_235 : decode cX0_close 235 = .ok (.iadd, 1) := dk_96 (dk_at dksX0_close_10 6 rfl rfl)
theorem dX0_close_236 : decode cX0_close 236 = .ok (.iconst 0, 1) := dk_3 (dk_at dksX0_close_10 7 rfl rfl)
theorem dX0_close_237 : decode cX0_close 237 = .ok (.iload 5, 2) := dk_21 5 (dk_at dksX0_close_10 8 rfl rfl)
theorem dX0_close_239 : decode cX0_close 239 = .ok (.ineg, 1) := dk_116 (dk_at dksX0_close_10 10 rfl rfl)
theorem dX0_close_240 : decode cX0_close 240 = .ok (.iload_n 1, 1) := dk_27 (dk_at dksX0_close_10 11 rfl rfl)
theorem dX0_close_241 : decode cX0_close 241 = .ok (.invokevirtual 509, 3) := dk_182 1 253 (dk_at dksX0_close_10 12 rfl rfl)
theorem dX0_close_244 : decode cX0_close 244 = .ok (.aload_n 0, 1) := dk_42 (dk_at dksX0_close_10 15 rfl rfl)
theorem dX0_close_245 : decode cX0_close 245 = .ok (.iload_n 3, 1) := dk_29 (dk_at dksX0_close_10 16 rfl rfl)
theorem dX0_close_246 : decode cX0_close 246 = .ok (.iconst 1, 1) := dk_4 (dk_at dksX0_close_10 17 rfl rfl)
theorem dX0_close_247 : decode cX0_close 247 = .ok (.iadd, 1) := dk_96 (dk_at dksX0_close_10 18 rfl rfl)
theorem dX0_close_248 : decode cX0_close 248 = .ok (.iconst 1, 1) := dk_4 (dk_at dksX0_close_10 19 rfl rfl)
theorem dX0_close_249 : decode cX0_close 249 = .ok (.iload 5, 2) := dk_21 5 (dk_at dksX0_close_10 20 rfl rfl)
theorem dX0_close_251 : decode cX0_close 251 = .ok (.iload_n 1, 1) := dk_27 (dk_at dksX0_close_10 22 rfl rfl)
theorem dX0_close_252 : decode cX0_close 252 = .ok (.invokevirtual 509, 3) := dk_182 1 253 (dk_at dksX0_close_11 0 rfl rfl)
theorem dX0_close_255 : decode cX0_close 255 = .ok (.iload 6, 2) := dk_21 6 (dk_at dksX0_close_11 3 rfl rfl)
theorem dX0_close_257 : decode cX0_close 257 = .ok (.ifCond .eq 26, 3) := dk_153 0 26 (dk_at dksX0_close_11 5 rfl rfl)
theorem dX0_close_260 : decode cX0_close 260 = .ok (.aload_n 0, 1) := dk_42 (dk_at dksX0_close_11 8 rfl rfl)
theorem dX0_close_261 : decode cX0_close 261 = .ok (.iload_n 3, 1) := dk_29 (dk_at dksX0_close_11 9 rfl rfl)
theorem dX0_close_262 : decode cX0_close 262 = .ok (.iconst 1, 1) := dk_4 (dk_at dksX0_close_11 10 rfl rfl)
theorem dX0_close_263 : decode cX0_close 263 = .ok (.iadd, 1) := dk_96 (dk_at dksX0_close_11 11 rfl rfl)
theorem dX0_close_264 : decode cX0_close 264 = .ok (.iconst 2, 1) := dk_5 (dk_at dksX0_close_11 12 rfl rfl)
theorem dX0_close_265 : decode cX0_close 265 = .ok (.iload 6, 2) := dk_21 6 (dk_at dksX0_close_11 13 rfl rfl)
theorem dX0_close_267 : decode cX0_close 267 = .ok (.iload_n 1, 1) := dk_27 (dk_at dksX0_close_11 15 rfl rfl)
theorem dX0_close_268 : decode cX0_close 268 = .ok (.invokevirtual 509, 3) := dk_182 1 253 (dk_at dksX0_close_11 16 rfl rfl)
theorem dX0_close_271 : decode cX0_close 271 = .ok (.aload_n 0, 1) := dk_42 (dk_at dksX0_close_11 19 rfl rfl)
theorem dX0_close_272 : decode cX0_close 272 = .ok (.iload_n 3, 1) := dk_29 (dk_at dksX0_close_11 20 rfl rfl)
theorem dX0_close_273 : decode cX0_close 273 = .ok (.iconst 1, 1) := dk_4 (dk_at dksX0_close_11 21 rfl rfl)
theorem dX0_close_274 : decode cX0_close 274 = .ok (.iadd, 1) := dk_96 (dk_at dksX0_close_11 22 rfl rfl)
theorem dX0_close_275 : decode cX0_close 275 = .ok (.iconst 3, 1) := dk_6 (dk_at dksX0_close_11 23 rfl rfl)
theorem dX0_close_276 : decode cX0_close 276 = .ok (.iload 6, 2) := dk_21 6 (dk_at dksX0_close_12 0 rfl rfl)
theorem dX0_close_278 : decode cX0_close 278 = .ok (.ineg, 1) := dk_116 (dk_at dksX0_close_12 2 rfl rfl)
theorem dX0_close_279 : decode cX0_close 279 = .ok (.iload_n 1, 1) := dk_27 (dk_at dksX0_close_12 3 rfl rfl)
theorem dX0_close_280 : decode cX0_close 280 = .ok (.invokevirtual 509, 3) := dk_182 1 253 (dk_at dksX0_close_12 4 rfl rfl)
theorem dX0_close_283 : decode cX0_close 283 = .ok (.aload 4, 2) := dk_25 4 (dk_at dksX0_close_12 7 rfl rfl)
theorem dX0_close_285 : decode cX0_close 285 = .ok (.dup, 1) := dk_89 (dk_at dksX0_close_12 9 rfl rfl)
theorem dX0_close_286 : decode cX0_close 286 = .ok (.getfield 503, 3) := dk_180 1 247 (dk_at dksX0_close_12 10 rfl rfl)
theorem dX0_close_289 : decode cX0_close 289 = .ok (.iload 5, 2) := dk_21 5 (dk_at dksX0_close_12 13 rfl rfl)
theorem dX0_close_291 : decode cX0_close 291 = .ok (.iadd, 1) := dk_96 (dk_at dksX0_close_12 15 rfl rfl)
theorem dX0_close_292 : decode cX0_close 292 = .ok (.putfield 503, 3) := dk_181 1 247 (dk_at dksX0_close_12 16 rfl rfl)
theorem dX0_close_295 : decode cX0_close 295 = .ok (.aload 4, 2) := dk_25 4 (dk_at dksX0_close_12 19 rfl rfl)
theorem dX0_close_297 : decode cX0_close 297 = .ok (.dup, 1) := dk_89 (dk_at dksX0_close_12 21 rfl rfl)
theorem dX0_close_298 : decode cX0_close 298 = .ok (.getfield 506, 3) := dk_180 1 250 (dk_at dksX0_close_13 0 rfl rfl)
theorem dX0_close_301 : decode cX0_close 301 = .ok (.iload 6, 2) := dk_21 6 (dk_at dksX0_close_13 3 rfl rfl)
theorem dX0_close_303 : decode cX0_close 303 = .ok (.iadd, 1) := dk_96 (dk_at dksX0_close_13 5 rfl rfl)
theorem dX0_close_304 : decode cX0_close 304 = .ok (.putfield 506, 3) := dk_181 1 250 (dk_at dksX0_close_13 6 rfl rfl)
theorem dX0_close_307 : decode cX0_close 307 = .ok (.iinc 3 1, 3) := dk_132 3 1 (dk_at dksX0_close_13 9 rfl rfl)
theorem dX0_close_310 : decode cX0_close 310 = .ok (.goto (-151), 3) := dk_167 255 105 (dk_at dksX0_close_13 12 rfl rfl)
theorem dX0_close_313 : decode cX0_close 313 = .ok (.iload_n 2, 1) := dk_28 (dk_at dksX0_close_13 15 rfl rfl)
theorem dX0_close_314 : decode cX0_close 314 = .ok (.ireturn, 1) := dk_172 (dk_at dksX0_close_13 16 rfl rfl)
abbrev cX0_book : ByteArray := prog_1_method_48_code
def yX0_book : MethodName := ⟨RX0, "book", "(IIII)V"⟩
def dkwX0_book_2 : List UInt8 := [177]
abbrev dktX0_book_2 : List UInt8 := dkwX0_book_2 ++ []
def dkwX0_book_1 : List UInt8 := [42, 180, 1, 241, 29, 79, 42, 180, 0, 143, 42, 89, 180, 1, 241, 90, 4, 96, 181, 1, 241, 21, 4, 79]
abbrev dktX0_book_1 : List UInt8 := dkwX0_book_1 ++ dktX0_book_2
def dkwX0_book_0 : List UInt8 := [42, 180, 0, 134, 42, 180, 1, 241, 27, 79, 42, 180, 0, 137, 42, 180, 1, 241, 28, 79, 42, 180, 0, 140]
abbrev dktX0_book_0 : List UInt8 := dkwX0_book_0 ++ dktX0_book_1
theorem dksX0_book_0 : cX0_book.data.toList.drop 0 = dktX0_book_0 := by decide +kernel
theorem dksX0_book_1 : cX0_book.data.toList.drop 24 = dktX0_book_1 := dk_seg dksX0_book_0 24 rfl rfl
theorem dksX0_book_2 : cX0_book.data.toList.drop 48 = dktX0_book_2 := dk_seg dksX0_book_1 24 rfl rfl
theorem dX0_book_0 : decode cX0_book 0 = .ok (.aload_n 0, 1) := dk_42 (dk_at dksX0_book_0 0 rfl rfl)
theorem dX0_book_1 : decode cX0_book 1 = .ok (.getfield 134, 3) := dk_180 0 134 (dk_at dksX0_book_0 1 rfl rfl)
theorem dX0_book_4 : decode cX0_book 4 = .ok (.aload_n 0, 1) := dk_42 (dk_at dksX0_book_0 4 rfl rfl)
theorem dX0_book_5 : decode cX0_book 5 = .ok (.getfield 497, 3) := dk_180 1 241 (dk_at dksX0_book_0 5 rfl rfl)
theorem dX0_book_8 : decode cX0_book 8 = .ok (.iload_n 1, 1) := dk_27 (dk_at dksX0_book_0 8 rfl rfl)
theorem dX0_book_9 : decode cX0_book 9 = .ok (.iastore, 1) := dk_79 (dk_at dksX0_book_0 9 rfl rfl)
theorem dX0_book_10 : decode cX0_book 10 = .ok (.aload_n 0, 1) := dk_42 (dk_at dksX0_book_0 10 rfl rfl)
theorem dX0_book_11 : decode cX0_book 11 = .ok (.getfield 137, 3) := dk_180 0 137 (dk_at dksX0_book_0 11 rfl rfl)
theorem dX0_book_14 : decode cX0_book 14 = .ok (.aload_n 0, 1) := dk_42 (dk_at dksX0_book_0 14 rfl rfl)
theorem dX0_book_15 : decode cX0_book 15 = .ok (.getfield 497, 3) := dk_180 1 241 (dk_at dksX0_book_0 15 rfl rfl)
theorem dX0_book_18 : decode cX0_book 18 = .ok (.iload_n 2, 1) := dk_28 (dk_at dksX0_book_0 18 rfl rfl)
theorem dX0_book_19 : decode cX0_book 19 = .ok (.iastore, 1) := dk_79 (dk_at dksX0_book_0 19 rfl rfl)
theorem dX0_book_20 : decode cX0_book 20 = .ok (.aload_n 0, 1) := dk_42 (dk_at dksX0_book_0 20 rfl rfl)
theorem dX0_book_21 : decode cX0_book 21 = .ok (.getfield 140, 3) := dk_180 0 140 (dk_at dksX0_book_0 21 rfl rfl)
theorem dX0_book_24 : decode cX0_book 24 = .ok (.aload_n 0, 1) := dk_42 (dk_at dksX0_book_1 0 rfl rfl)
theorem dX0_book_25 : decode cX0_book 25 = .ok (.getfield 497, 3) := dk_180 1 241 (dk_at dksX0_book_1 1 rfl rfl)
theorem dX0_book_28 : decode cX0_book 28 = .ok (.iload_n 3, 1) := dk_29 (dk_at dksX0_book_1 4 rfl rfl)
theorem dX0_book_29 : decode cX0_book 29 = .ok (.iastore, 1) := dk_79 (dk_at dksX0_book_1 5 rfl rfl)
theorem dX0_book_30 : decode cX0_book 30 = .ok (.aload_n 0, 1) := dk_42 (dk_at dksX0_book_1 6 rfl rfl)
theorem dX0_book_31 : decode cX0_book 31 = .ok (.getfield 143, 3) := dk_180 0 143 (dk_at dksX0_book_1 7 rfl rfl)
theorem dX0_book_34 : decode cX0_book 34 = .ok (.aload_n 0, 1) := dk_42 (dk_at dksX0_book_1 10 rfl rfl)
theorem dX0_book_35 : decode cX0_book 35 = .ok (.dup, 1) := dk_89 (dk_at dksX0_book_1 11 rfl rfl)
theorem dX0_book_36 : decode cX0_book 36 = .ok (.getfield 497, 3) := dk_180 1 241 (dk_at dksX0_book_1 12 rfl rfl)
theorem dX0_book_39 : decode cX0_book 39 = .ok (.dup_x1, 1) := dk_90 (dk_at dksX0_book_1 15 rfl rfl)
theorem dX0_book_40 : decode cX0_book 40 = .ok (.iconst 1, 1) := dk_4 (dk_at dksX0_book_1 16 rfl rfl)
theorem dX0_book_41 : decode cX0_book 41 = .ok (.iadd, 1) := dk_96 (dk_at dksX0_book_1 17 rfl rfl)
theorem dX0_book_42 : decode cX0_book 42 = .ok (.putfield 497, 3) := dk_181 1 241 (dk_at dksX0_book_1 18 rfl rfl)
theorem dX0_book_45 : decode cX0_book 45 = .ok (.iload 4, 2) := dk_21 4 (dk_at dksX0_book_1 21 rfl rfl)
theorem dX0_book_47 : decode cX0_book 47 = .ok (.iastore, 1) := dk_79 (dk_at dksX0_book_1 23 rfl rfl)
theorem dX0_book_48 : decode cX0_book 48 = .ok (.return_, 1) := dk_177 (dk_at dksX0_book_2 0 rfl rfl)
abbrev cX0_row : ByteArray := prog_1_method_50_code
def yX0_row : MethodName := ⟨RX0, "row", "(II)I"⟩
def dkwX0_row_3 : List UInt8 := [180, 0, 143, 27, 46, 172, 16, 254, 172]
abbrev dktX0_row_3 : List UInt8 := dkwX0_row_3 ++ []
def dkwX0_row_2 : List UInt8 := [42, 180, 0, 134, 27, 46, 172, 42, 180, 0, 137, 27, 46, 172, 42, 180, 0, 140, 27, 46, 172, 42]
abbrev dktX0_row_2 : List UInt8 := dkwX0_row_2 ++ dktX0_row_3
def dkwX0_row_1 : List UInt8 := [170, 0, 0, 0, 57, 0, 0, 0, 0, 0, 0, 0, 3, 0, 0, 0, 29, 0, 0, 0, 36, 0, 0, 0, 43, 0, 0, 0, 50]
abbrev dktX0_row_1 : List UInt8 := dkwX0_row_1 ++ dktX0_row_2
def dkwX0_row_0 : List UInt8 := [27, 155, 0, 11, 27, 42, 180, 1, 241, 161, 0, 5, 2, 172, 28]
abbrev dktX0_row_0 : List UInt8 := dkwX0_row_0 ++ dktX0_row_1
theorem dksX0_row_0 : cX0_row.data.toList.drop 0 = dktX0_row_0 := by decide +kernel
theorem dksX0_row_1 : cX0_row.data.toList.drop 15 = dktX0_row_1 := dk_seg dksX0_row_0 15 rfl rfl
theorem dksX0_row_2 : cX0_row.data.toList.drop 44 = dktX0_row_2 := dk_seg dksX0_row_1 29 rfl rfl
theorem dksX0_row_3 : cX0_row.data.toList.drop 66 = dktX0_row_3 := dk_seg dksX0_row_2 22 rfl rfl
theorem dX0_row_0 : decode cX0_row 0 = .ok (.iload_n 1, 1) := dk_27 (dk_at dksX0_row_0 0 rfl rfl)
theorem dX0_row_1 : decode cX0_row 1 = .ok (.ifCond .lt 11, 3) := dk_155 0 11 (dk_at dksX0_row_0 1 rfl rfl)
theorem dX0_row_4 : decode cX0_row 4 = .ok (.iload_n 1, 1) := dk_27 (dk_at dksX0_row_0 4 rfl rfl)
theorem dX0_row_5 : decode cX0_row 5 = .ok (.aload_n 0, 1) := dk_42 (dk_at dksX0_row_0 5 rfl rfl)
theorem dX0_row_6 : decode cX0_row 6 = .ok (.getfield 497, 3) := dk_180 1 241 (dk_at dksX0_row_0 6 rfl rfl)
theorem dX0_row_9 : decode cX0_row 9 = .ok (.if_icmp .lt 5, 3) := dk_161 0 5 (dk_at dksX0_row_0 9 rfl rfl)
theorem dX0_row_12 : decode cX0_row 12 = .ok (.iconst (-1), 1) := dk_2 (dk_at dksX0_row_0 12 rfl rfl)
theorem dX0_row_13 : decode cX0_row 13 = .ok (.ireturn, 1) := dk_172 (dk_at dksX0_row_0 13 rfl rfl)
theorem dX0_row_14 : decode cX0_row 14 = .ok (.iload_n 2, 1) := dk_28 (dk_at dksX0_row_0 14 rfl rfl)
theorem dX0_row_15 : decode cX0_row 15 = .ok (.tableswitch 57 0 3 #[29, 36, 43, 50], 29) := by decide +kernel
theorem dX0_row_44 : decode cX0_row 44 = .ok (.aload_n 0, 1) := dk_42 (dk_at dksX0_row_2 0 rfl rfl)
theorem dX0_row_45 : decode cX0_row 45 = .ok (.getfield 134, 3) := dk_180 0 134 (dk_at dksX0_row_2 1 rfl rfl)
theorem dX0_row_48 : decode cX0_row 48 = .ok (.iload_n 1, 1) := dk_27 (dk_at dksX0_row_2 4 rfl rfl)
theorem dX0_row_49 : decode cX0_row 49 = .ok (.iaload, 1) := dk_46 (dk_at dksX0_row_2 5 rfl rfl)
theorem dX0_row_50 : decode cX0_row 50 = .ok (.ireturn, 1) := dk_172 (dk_at dksX0_row_2 6 rfl rfl)
theorem dX0_row_51 : decode cX0_row 51 = .ok (.aload_n 0, 1) := dk_42 (dk_at dksX0_row_2 7 rfl rfl)
theorem dX0_row_52 : decode cX0_row 52 = .ok (.getfield 137, 3) := dk_180 0 137 (dk_at dksX0_row_2 8 rfl rfl)
theorem dX0_row_55 : decode cX0_row 55 = .ok (.iload_n 1, 1) := dk_27 (dk_at dksX0_row_2 11 rfl rfl)
theorem dX0_row_56 : decode cX0_row 56 = .ok (.iaload, 1) := dk_46 (dk_at dksX0_row_2 12 rfl rfl)
theorem dX0_row_57 : decode cX0_row 57 = .ok (.ireturn, 1) := dk_172 (dk_at dksX0_row_2 13 rfl rfl)
theorem dX0_row_58 : decode cX0_row 58 = .ok (.aload_n 0, 1) := dk_42 (dk_at dksX0_row_2 14 rfl rfl)
theorem dX0_row_59 : decode cX0_row 59 = .ok (.getfield 140, 3) := dk_180 0 140 (dk_at dksX0_row_2 15 rfl rfl)
theorem dX0_row_62 : decode cX0_row 62 = .ok (.iload_n 1, 1) := dk_27 (dk_at dksX0_row_2 18 rfl rfl)
theorem dX0_row_63 : decode cX0_row 63 = .ok (.iaload, 1) := dk_46 (dk_at dksX0_row_2 19 rfl rfl)
theorem dX0_row_64 : decode cX0_row 64 = .ok (.ireturn, 1) := dk_172 (dk_at dksX0_row_2 20 rfl rfl)
theorem dX0_row_65 : decode cX0_row 65 = .ok (.aload_n 0, 1) := dk_42 (dk_at dksX0_row_2 21 rfl rfl)
theorem dX0_row_66 : decode cX0_row 66 = .ok (.getfield 143, 3) := dk_180 0 143 (dk_at dksX0_row_3 0 rfl rfl)
theorem dX0_row_69 : decode cX0_row 69 = .ok (.iload_n 1, 1) := dk_27 (dk_at dksX0_row_3 3 rfl rfl)
theorem dX0_row_70 : decode cX0_row 70 = .ok (.iaload, 1) := dk_46 (dk_at dksX0_row_3 4 rfl rfl)
theorem dX0_row_71 : decode cX0_row 71 = .ok (.ireturn, 1) := dk_172 (dk_at dksX0_row_3 5 rfl rfl)
theorem dX0_row_72 : decode cX0_row 72 = .ok (.bipush (-2), 2) := dk_16 254 (dk_at dksX0_row_3 6 rfl rfl)
theorem dX0_row_74 : decode cX0_row 74 = .ok (.ireturn, 1) := dk_172 (dk_at dksX0_row_3 8 rfl rfl)
abbrev cX0_balance : ByteArray := prog_1_method_51_code
def yX0_balance : MethodName := ⟨RX0, "balance", "(I)J"⟩
def dkwX0_balance_2 : List UInt8 := [32, 173]
abbrev dktX0_balance_2 : List UInt8 := dkwX0_balance_2 ++ []
def dkwX0_balance_1 : List UInt8 := [21, 4, 46, 27, 160, 0, 14, 32, 42, 180, 0, 140, 21, 4, 46, 133, 97, 65, 132, 4, 1, 167, 255, 217]
abbrev dktX0_balance_1 : List UInt8 := dkwX0_balance_1 ++ dktX0_balance_2
def dkwX0_balance_0 : List UInt8 := [9, 65, 3, 54, 4, 21, 4, 42, 180, 1, 241, 162, 0, 36, 27, 2, 159, 0, 14, 42, 180, 0, 137]
abbrev dktX0_balance_0 : List UInt8 := dkwX0_balance_0 ++ dktX0_balance_1
theorem dksX0_balance_0 : cX0_balance.data.toList.drop 0 = dktX0_balance_0 := by decide +kernel
theorem dksX0_balance_1 : cX0_balance.data.toList.drop 23 = dktX0_balance_1 := dk_seg dksX0_balance_0 23 rfl rfl
theorem dksX0_balance_2 : cX0_balance.data.toList.drop 47 = dktX0_balance_2 := dk_seg dksX0_balance_1 24 rfl rfl
theorem dX0_balance_0 : decode cX0_balance 0 = .ok (.lconst 0, 1) := dk_9 (dk_at dksX0_balance_0 0 rfl rfl)
theorem dX0_balance_1 : decode cX0_balance 1 = .ok (.lstore_n 2, 1) := dk_65 (dk_at dksX0_balance_0 1 rfl rfl)
theorem dX0_balance_2 : decode cX0_balance 2 = .ok (.iconst 0, 1) := dk_3 (dk_at dksX0_balance_0 2 rfl rfl)
theorem dX0_balance_3 : decode cX0_balance 3 = .ok (.istore 4, 2) := dk_54 4 (dk_at dksX0_balance_0 3 rfl rfl)
theorem dX0_balance_5 : decode cX0_balance 5 = .ok (.iload 4, 2) := dk_21 4 (dk_at dksX0_balance_0 5 rfl rfl)
theorem dX0_balance_7 : decode cX0_balance 7 = .ok (.aload_n 0, 1) := dk_42 (dk_at dksX0_balance_0 7 rfl rfl)
theorem dX0_balance_8 : decode cX0_balance 8 = .ok (.getfield 497, 3) := dk_180 1 241 (dk_at dksX0_balance_0 8 rfl rfl)
theorem dX0_balance_11 : decode cX0_balance 11 = .ok (.if_icmp .ge 36, 3) := dk_162 0 36 (dk_at dksX0_balance_0 11 rfl rfl)
theorem dX0_balance_14 : decode cX0_balance 14 = .ok (.iload_n 1, 1) := dk_27 (dk_at dksX0_balance_0 14 rfl rfl)
theorem dX0_balance_15 : decode cX0_balance 15 = .ok (.iconst (-1), 1) := dk_2 (dk_at dksX0_balance_0 15 rfl rfl)
theorem dX0_balance_16 : decode cX0_balance 16 = .ok (.if_icmp .eq 14, 3) := dk_159 0 14 (dk_at dksX0_balance_0 16 rfl rfl)
theorem dX0_balance_19 : decode cX0_balance 19 = .ok (.aload_n 0, 1) := dk_42 (dk_at dksX0_balance_0 19 rfl rfl)
theorem dX0_balance_20 : decode cX0_balance 20 = .ok (.getfield 137, 3) := dk_180 0 137 (dk_at dksX0_balance_0 20 rfl rfl)
theorem dX0_balance_23 : decode cX0_balance 23 = .ok (.iload 4, 2) := dk_21 4 (dk_at dksX0_balance_1 0 rfl rfl)
theorem dX0_balance_25 : decode cX0_balance 25 = .ok (.iaload, 1) := dk_46 (dk_at dksX0_balance_1 2 rfl rfl)
theorem dX0_balance_26 : decode cX0_balance 26 = .ok (.iload_n 1, 1) := dk_27 (dk_at dksX0_balance_1 3 rfl rfl)
theorem dX0_balance_27 : decode cX0_balance 27 = .ok (.if_icmp .ne 14, 3) := dk_160 0 14 (dk_at dksX0_balance_1 4 rfl rfl)
theorem dX0_balance_30 : decode cX0_balance 30 = .ok (.lload_n 2, 1) := dk_32 (dk_at dksX0_balance_1 7 rfl rfl)
theorem dX0_balance_31 : decode cX0_balance 31 = .ok (.aload_n 0, 1) := dk_42 (dk_at dksX0_balance_1 8 rfl rfl)
theorem dX0_balance_32 : decode cX0_balance 32 = .ok (.getfield 140, 3) := dk_180 0 140 (dk_at dksX0_balance_1 9 rfl rfl)
theorem dX0_balance_35 : decode cX0_balance 35 = .ok (.iload 4, 2) := dk_21 4 (dk_at dksX0_balance_1 12 rfl rfl)
theorem dX0_balance_37 : decode cX0_balance 37 = .ok (.iaload, 1) := dk_46 (dk_at dksX0_balance_1 14 rfl rfl)
theorem dX0_balance_38 : decode cX0_balance 38 = .ok (.i2l, 1) := dk_133 (dk_at dksX0_balance_1 15 rfl rfl)
theorem dX0_balance_39 : decode cX0_balance 39 = .ok (.ladd, 1) := dk_97 (dk_at dksX0_balance_1 16 rfl rfl)
theorem dX0_balance_40 : decode cX0_balance 40 = .ok (.lstore_n 2, 1) := dk_65 (dk_at dksX0_balance_1 17 rfl rfl)
theorem dX0_balance_41 : decode cX0_balance 41 = .ok (.iinc 4 1, 3) := dk_132 4 1 (dk_at dksX0_balance_1 18 rfl rfl)
theorem dX0_balance_44 : decode cX0_balance 44 = .ok (.goto (-39), 3) := dk_167 255 217 (dk_at dksX0_balance_1 21 rfl rfl)
theorem dX0_balance_47 : decode cX0_balance 47 = .ok (.lload_n 2, 1) := dk_32 (dk_at dksX0_balance_2 0 rfl rfl)
theorem dX0_balance_48 : decode cX0_balance 48 = .ok (.lreturn, 1) := dk_173 (dk_at dksX0_balance_2 1 rfl rfl)
abbrev cX0_paid : ByteArray := prog_1_method_53_code
def yX0_paid : MethodName := ⟨RX0, "paid", "(II)J"⟩
def dkwX0_paid_1 : List UInt8 := [16, 26, 164, 0, 7, 20, 1, 228, 173, 42, 27, 28, 182, 2, 1, 173]
abbrev dktX0_paid_1 : List UInt8 := dkwX0_paid_1 ++ []
def dkwX0_paid_0 : List UInt8 := [27, 155, 0, 27, 27, 16, 9, 163, 0, 21, 28, 155, 0, 17, 28, 16, 9, 163, 0, 11, 27, 28, 96]
abbrev dktX0_paid_0 : List UInt8 := dkwX0_paid_0 ++ dktX0_paid_1
theorem dksX0_paid_0 : cX0_paid.data.toList.drop 0 = dktX0_paid_0 := by decide +kernel
theorem dksX0_paid_1 : cX0_paid.data.toList.drop 23 = dktX0_paid_1 := dk_seg dksX0_paid_0 23 rfl rfl
theorem dX0_paid_0 : decode cX0_paid 0 = .ok (.iload_n 1, 1) := dk_27 (dk_at dksX0_paid_0 0 rfl rfl)
theorem dX0_paid_1 : decode cX0_paid 1 = .ok (.ifCond .lt 27, 3) := dk_155 0 27 (dk_at dksX0_paid_0 1 rfl rfl)
theorem dX0_paid_4 : decode cX0_paid 4 = .ok (.iload_n 1, 1) := dk_27 (dk_at dksX0_paid_0 4 rfl rfl)
theorem dX0_paid_5 : decode cX0_paid 5 = .ok (.bipush 9, 2) := dk_16 9 (dk_at dksX0_paid_0 5 rfl rfl)
theorem dX0_paid_7 : decode cX0_paid 7 = .ok (.if_icmp .gt 21, 3) := dk_163 0 21 (dk_at dksX0_paid_0 7 rfl rfl)
theorem dX0_paid_10 : decode cX0_paid 10 = .ok (.iload_n 2, 1) := dk_28 (dk_at dksX0_paid_0 10 rfl rfl)
theorem dX0_paid_11 : decode cX0_paid 11 = .ok (.ifCond .lt 17, 3) := dk_155 0 17 (dk_at dksX0_paid_0 11 rfl rfl)
theorem dX0_paid_14 : decode cX0_paid 14 = .ok (.iload_n 2, 1) := dk_28 (dk_at dksX0_paid_0 14 rfl rfl)
theorem dX0_paid_15 : decode cX0_paid 15 = .ok (.bipush 9, 2) := dk_16 9 (dk_at dksX0_paid_0 15 rfl rfl)
theorem dX0_paid_17 : decode cX0_paid 17 = .ok (.if_icmp .gt 11, 3) := dk_163 0 11 (dk_at dksX0_paid_0 17 rfl rfl)
theorem dX0_paid_20 : decode cX0_paid 20 = .ok (.iload_n 1, 1) := dk_27 (dk_at dksX0_paid_0 20 rfl rfl)
theorem dX0_paid_21 : decode cX0_paid 21 = .ok (.iload_n 2, 1) := dk_28 (dk_at dksX0_paid_0 21 rfl rfl)
theorem dX0_paid_22 : decode cX0_paid 22 = .ok (.iadd, 1) := dk_96 (dk_at dksX0_paid_0 22 rfl rfl)
theorem dX0_paid_23 : decode cX0_paid 23 = .ok (.bipush 26, 2) := dk_16 26 (dk_at dksX0_paid_1 0 rfl rfl)
theorem dX0_paid_25 : decode cX0_paid 25 = .ok (.if_icmp .le 7, 3) := dk_164 0 7 (dk_at dksX0_paid_1 2 rfl rfl)
theorem dX0_paid_28 : decode cX0_paid 28 = .ok (.ldc2_w 484, 3) := dk_20 1 228 (dk_at dksX0_paid_1 5 rfl rfl)
theorem dX0_paid_31 : decode cX0_paid 31 = .ok (.lreturn, 1) := dk_173 (dk_at dksX0_paid_1 8 rfl rfl)
theorem dX0_paid_32 : decode cX0_paid 32 = .ok (.aload_n 0, 1) := dk_42 (dk_at dksX0_paid_1 9 rfl rfl)
theorem dX0_paid_33 : decode cX0_paid 33 = .ok (.iload_n 1, 1) := dk_27 (dk_at dksX0_paid_1 10 rfl rfl)
theorem dX0_paid_34 : decode cX0_paid 34 = .ok (.iload_n 2, 1) := dk_28 (dk_at dksX0_paid_1 11 rfl rfl)
theorem dX0_paid_35 : decode cX0_paid 35 = .ok (.invokevirtual 513, 3) := dk_182 2 1 (dk_at dksX0_paid_1 12 rfl rfl)
theorem dX0_paid_38 : decode cX0_paid 38 = .ok (.lreturn, 1) := dk_173 (dk_at dksX0_paid_1 15 rfl rfl)
abbrev cX0_gridAt : ByteArray := prog_1_method_52_code
def yX0_gridAt : MethodName := ⟨RX0, "gridAt", "(II)J"⟩
def dkwX0_gridAt_4 : List UInt8 := [21, 6, 46, 133, 167, 0, 4, 9, 97, 55, 4, 132, 6, 1, 167, 255, 197, 22, 4, 173]
abbrev dktX0_gridAt_4 : List UInt8 := dkwX0_gridAt_4 ++ []
def dkwX0_gridAt_3 : List UInt8 := [185, 0, 221, 2, 0, 192, 1, 184, 180, 1, 200, 17, 1, 109, 108, 27, 160, 0, 14, 42, 180, 0, 128]
abbrev dktX0_gridAt_3 : List UInt8 := dkwX0_gridAt_3 ++ dktX0_gridAt_4
def dkwX0_gridAt_2 : List UInt8 := [21, 6, 42, 180, 0, 92, 185, 0, 201, 1, 0, 162, 0, 51, 22, 4, 42, 180, 0, 92, 21, 6]
abbrev dktX0_gridAt_2 : List UInt8 := dkwX0_gridAt_2 ++ dktX0_gridAt_3
def dkwX0_gridAt_1 : List UInt8 := [185, 0, 201, 1, 0, 163, 0, 16, 42, 21, 6, 29, 182, 1, 223, 132, 6, 1, 167, 255, 232, 3, 54, 6]
abbrev dktX0_gridAt_1 : List UInt8 := dkwX0_gridAt_1 ++ dktX0_gridAt_2
def dkwX0_gridAt_0 : List UInt8 := [27, 28, 96, 4, 96, 17, 1, 109, 104, 4, 100, 62, 9, 55, 4, 4, 54, 6, 21, 6, 42, 180, 0, 89]
abbrev dktX0_gridAt_0 : List UInt8 := dkwX0_gridAt_0 ++ dktX0_gridAt_1
theorem dksX0_gridAt_0 : cX0_gridAt.data.toList.drop 0 = dktX0_gridAt_0 := by decide +kernel
theorem dksX0_gridAt_1 : cX0_gridAt.data.toList.drop 24 = dktX0_gridAt_1 := dk_seg dksX0_gridAt_0 24 rfl rfl
theorem dksX0_gridAt_2 : cX0_gridAt.data.toList.drop 48 = dktX0_gridAt_2 := dk_seg dksX0_gridAt_1 24 rfl rfl
theorem dksX0_gridAt_3 : cX0_gridAt.data.toList.drop 70 = dktX0_gridAt_3 := dk_seg dksX0_gridAt_2 22 rfl rfl
theorem dksX0_gridAt_4 : cX0_gridAt.data.toList.drop 93 = dktX0_gridAt_4 := dk_seg dksX0_gridAt_3 23 rfl rfl
theorem dX0_gridAt_0 : decode cX0_gridAt 0 = .ok (.iload_n 1, 1) := dk_27 (dk_at dksX0_gridAt_0 0 rfl rfl)
theorem dX0_gridAt_1 : decode cX0_gridAt 1 = .ok (.iload_n 2, 1) := dk_28 (dk_at dksX0_gridAt_0 1 rfl rfl)
theorem dX0_gridAt_2 : decode cX0_gridAt 2 = .ok (.iadd, 1) := dk_96 (dk_at dksX0_gridAt_0 2 rfl rfl)
theorem dX0_gridAt_3 : decode cX0_gridAt 3 = .ok (.iconst 1, 1) := dk_4 (dk_at dksX0_gridAt_0 3 rfl rfl)
theorem dX0_gridAt_4 : decode cX0_gridAt 4 = .ok (.iadd, 1) := dk_96 (dk_at dksX0_gridAt_0 4 rfl rfl)
theorem dX0_gridAt_5 : decode cX0_gridAt 5 = .ok (.sipush 365, 3) := dk_17 1 109 (dk_at dksX0_gridAt_0 5 rfl rfl)
theorem dX0_gridAt_8 : decode cX0_gridAt 8 = .ok (.imul, 1) := dk_104 (dk_at dksX0_gridAt_0 8 rfl rfl)
theorem dX0_gridAt_9 : decode cX0_gridAt 9 = .ok (.iconst 1, 1) := dk_4 (dk_at dksX0_gridAt_0 9 rfl rfl)
theorem dX0_gridAt_10 : decode cX0_gridAt 10 = .ok (.isub, 1) := dk_100 (dk_at dksX0_gridAt_0 10 rfl rfl)
theorem dX0_gridAt_11 : decode cX0_gridAt 11 = .ok (.istore_n 3, 1) := dk_62 (dk_at dksX0_gridAt_0 11 rfl rfl)
theorem dX0_gridAt_12 : decode cX0_gridAt 12 = .ok (.lconst 0, 1) := dk_9 (dk_at dksX0_gridAt_0 12 rfl rfl)
theorem dX0_gridAt_13 : decode cX0_gridAt 13 = .ok (.lstore 4, 2) := dk_55 4 (dk_at dksX0_gridAt_0 13 rfl rfl)
theorem dX0_gridAt_15 : decode cX0_gridAt 15 = .ok (.iconst 1, 1) := dk_4 (dk_at dksX0_gridAt_0 15 rfl rfl)
theorem dX0_gridAt_16 : decode cX0_gridAt 16 = .ok (.istore 6, 2) := dk_54 6 (dk_at dksX0_gridAt_0 16 rfl rfl)
theorem dX0_gridAt_18 : decode cX0_gridAt 18 = .ok (.iload 6, 2) := dk_21 6 (dk_at dksX0_gridAt_0 18 rfl rfl)
theorem dX0_gridAt_20 : decode cX0_gridAt 20 = .ok (.aload_n 0, 1) := dk_42 (dk_at dksX0_gridAt_0 20 rfl rfl)
theorem dX0_gridAt_21 : decode cX0_gridAt 21 = .ok (.getfield 89, 3) := dk_180 0 89 (dk_at dksX0_gridAt_0 21 rfl rfl)
theorem dX0_gridAt_24 : decode cX0_gridAt 24 = .ok (.invokeinterface 201 1, 5) := by decide +kernel
theorem dX0_gridAt_29 : decode cX0_gridAt 29 = .ok (.if_icmp .gt 16, 3) := dk_163 0 16 (dk_at dksX0_gridAt_1 5 rfl rfl)
theorem dX0_gridAt_32 : decode cX0_gridAt 32 = .ok (.aload_n 0, 1) := dk_42 (dk_at dksX0_gridAt_1 8 rfl rfl)
theorem dX0_gridAt_33 : decode cX0_gridAt 33 = .ok (.iload 6, 2) := dk_21 6 (dk_at dksX0_gridAt_1 9 rfl rfl)
theorem dX0_gridAt_35 : decode cX0_gridAt 35 = .ok (.iload_n 3, 1) := dk_29 (dk_at dksX0_gridAt_1 11 rfl rfl)
theorem dX0_gridAt_36 : decode cX0_gridAt 36 = .ok (.invokevirtual 479, 3) := dk_182 1 223 (dk_at dksX0_gridAt_1 12 rfl rfl)
theorem dX0_gridAt_39 : decode cX0_gridAt 39 = .ok (.iinc 6 1, 3) := dk_132 6 1 (dk_at dksX0_gridAt_1 15 rfl rfl)
theorem dX0_gridAt_42 : decode cX0_gridAt 42 = .ok (.goto (-24), 3) := dk_167 255 232 (dk_at dksX0_gridAt_1 18 rfl rfl)
theorem dX0_gridAt_45 : decode cX0_gridAt 45 = .ok (.iconst 0, 1) := dk_3 (dk_at dksX0_gridAt_1 21 rfl rfl)
theorem dX0_gridAt_46 : decode cX0_gridAt 46 = .ok (.istore 6, 2) := dk_54 6 (dk_at dksX0_gridAt_1 22 rfl rfl)
theorem dX0_gridAt_48 : decode cX0_gridAt 48 = .ok (.iload 6, 2) := dk_21 6 (dk_at dksX0_gridAt_2 0 rfl rfl)
theorem dX0_gridAt_50 : decode cX0_gridAt 50 = .ok (.aload_n 0, 1) := dk_42 (dk_at dksX0_gridAt_2 2 rfl rfl)
theorem dX0_gridAt_51 : decode cX0_gridAt 51 = .ok (.getfield 92, 3) := dk_180 0 92 (dk_at dksX0_gridAt_2 3 rfl rfl)
theorem dX0_gridAt_54 : decode cX0_gridAt 54 = .ok (.invokeinterface 201 1, 5) := by decide +kernel
theorem dX0_gridAt_59 : decode cX0_gridAt 59 = .ok (.if_icmp .ge 51, 3) := dk_162 0 51 (dk_at dksX0_gridAt_2 11 rfl rfl)
theorem dX0_gridAt_62 : decode cX0_gridAt 62 = .ok (.lload 4, 2) := dk_22 4 (dk_at dksX0_gridAt_2 14 rfl rfl)
theorem dX0_gridAt_64 : decode cX0_gridAt 64 = .ok (.aload_n 0, 1) := dk_42 (dk_at dksX0_gridAt_2 16 rfl rfl)
theorem dX0_gridAt_65 : decode cX0_gridAt 65 = .ok (.getfield 92, 3) := dk_180 0 92 (dk_at dksX0_gridAt_2 17 rfl rfl)
theorem dX0_gridAt_68 : decode cX0_gridAt 68 = .ok (.iload 6, 2) := dk_21 6 (dk_at dksX0_gridAt_2 20 rfl rfl)
theorem dX0_gridAt_70 : decode cX0_gridAt 70 = .ok (.invokeinterface 221 2, 5) := by decide +kernel
theorem dX0_gridAt_75 : decode cX0_gridAt 75 = .ok (.checkcast 440, 3) := dk_192 1 184 (dk_at dksX0_gridAt_3 5 rfl rfl)
theorem dX0_gridAt_78 : decode cX0_gridAt 78 = .ok (.getfield 456, 3) := dk_180 1 200 (dk_at dksX0_gridAt_3 8 rfl rfl)
theorem dX0_gridAt_81 : decode cX0_gridAt 81 = .ok (.sipush 365, 3) := dk_17 1 109 (dk_at dksX0_gridAt_3 11 rfl rfl)
theorem dX0_gridAt_84 : decode cX0_gridAt 84 = .ok (.idiv, 1) := dk_108 (dk_at dksX0_gridAt_3 14 rfl rfl)
theorem dX0_gridAt_85 : decode cX0_gridAt 85 = .ok (.iload_n 1, 1) := dk_27 (dk_at dksX0_gridAt_3 15 rfl rfl)
theorem dX0_gridAt_86 : decode cX0_gridAt 86 = .ok (.if_icmp .ne 14, 3) := dk_160 0 14 (dk_at dksX0_gridAt_3 16 rfl rfl)
theorem dX0_gridAt_89 : decode cX0_gridAt 89 = .ok (.aload_n 0, 1) := dk_42 (dk_at dksX0_gridAt_3 19 rfl rfl)
theorem dX0_gridAt_90 : decode cX0_gridAt 90 = .ok (.getfield 128, 3) := dk_180 0 128 (dk_at dksX0_gridAt_3 20 rfl rfl)
theorem dX0_gridAt_93 : decode cX0_gridAt 93 = .ok (.iload 6, 2) := dk_21 6 (dk_at dksX0_gridAt_4 0 rfl rfl)
theorem dX0_gridAt_95 : decode cX0_gridAt 95 = .ok (.iaload, 1) := dk_46 (dk_at dksX0_gridAt_4 2 rfl rfl)
theorem dX0_gridAt_96 : decode cX0_gridAt 96 = .ok (.i2l, 1) := dk_133 (dk_at dksX0_gridAt_4 3 rfl rfl)
theorem dX0_gridAt_97 : decode cX0_gridAt 97 = .ok (.goto 4, 3) := dk_167 0 4 (dk_at dksX0_gridAt_4 4 rfl rfl)
theorem dX0_gridAt_100 : decode cX0_gridAt 100 = .ok (.lconst 0, 1) := dk_9 (dk_at dksX0_gridAt_4 7 rfl rfl)
theorem dX0_gridAt_101 : decode cX0_gridAt 101 = .ok (.ladd, 1) := dk_97 (dk_at dksX0_gridAt_4 8 rfl rfl)
theorem dX0_gridAt_102 : decode cX0_gridAt 102 = .ok (.lstore 4, 2) := dk_55 4 (dk_at dksX0_gridAt_4 9 rfl rfl)
theorem dX0_gridAt_104 : decode cX0_gridAt 104 = .ok (.iinc 6 1, 3) := dk_132 6 1 (dk_at dksX0_gridAt_4 11 rfl rfl)
theorem dX0_gridAt_107 : decode cX0_gridAt 107 = .ok (.goto (-59), 3) := dk_167 255 197 (dk_at dksX0_gridAt_4 14 rfl rfl)
theorem dX0_gridAt_110 : decode cX0_gridAt 110 = .ok (.lload 4, 2) := dk_22 4 (dk_at dksX0_gridAt_4 17 rfl rfl)
theorem dX0_gridAt_112 : decode cX0_gridAt 112 = .ok (.lreturn, 1) := dk_173 (dk_at dksX0_gridAt_4 19 rfl rfl)
abbrev cX0_end : ByteArray := prog_1_method_54_code
def yX0_end : MethodName := ⟨RX0, "end", "(II)J"⟩
def dkwX0_end_8 : List UInt8 := [132, 5, 1, 167, 255, 158, 33, 173]
abbrev dktX0_end_8 : List UInt8 := dkwX0_end_8 ++ []
def dkwX0_end_7 : List UInt8 := [148, 154, 0, 7, 33, 167, 0, 16, 33, 22, 6, 105, 22, 8, 109, 20, 2, 5, 184, 1, 210, 66]
abbrev dktX0_end_7 : List UInt8 := dkwX0_end_7 ++ dktX0_end_8
def dkwX0_end_6 : List UInt8 := [180, 0, 146, 16, 10, 21, 10, 104, 21, 5, 96, 47, 97, 55, 8, 132, 10, 1, 167, 255, 204, 22, 8, 9]
abbrev dktX0_end_6 : List UInt8 := dkwX0_end_6 ++ dktX0_end_7
def dkwX0_end_5 : List UInt8 := [22, 6, 42, 180, 0, 146, 16, 10, 21, 10, 104, 21, 5, 96, 4, 96, 47, 97, 55, 6, 22, 8, 42]
abbrev dktX0_end_5 : List UInt8 := dkwX0_end_5 ++ dktX0_end_6
def dkwX0_end_4 : List UInt8 := [162, 0, 98, 9, 55, 6, 9, 55, 8, 3, 54, 10, 21, 10, 28, 21, 5, 100, 4, 100, 163, 0, 47]
abbrev dktX0_end_4 : List UInt8 := dkwX0_end_4 ++ dktX0_end_5
def dkwX0_end_3 : List UInt8 := [42, 180, 0, 146, 16, 10, 27, 104, 28, 96, 27, 100, 47, 66, 28, 27, 100, 54, 5, 21, 5, 28]
abbrev dktX0_end_3 : List UInt8 := dkwX0_end_3 ++ dktX0_end_4
def dkwX0_end_2 : List UInt8 := [104, 21, 4, 96, 42, 29, 21, 4, 182, 2, 1, 80, 132, 4, 1, 167, 255, 226, 132, 3, 1, 167, 255, 212]
abbrev dktX0_end_2 : List UInt8 := dkwX0_end_2 ++ dktX0_end_3
def dkwX0_end_1 : List UInt8 := [62, 29, 28, 163, 0, 45, 3, 54, 4, 29, 21, 4, 96, 28, 163, 0, 28, 42, 180, 0, 146, 16, 10, 29]
abbrev dktX0_end_1 : List UInt8 := dkwX0_end_1 ++ dktX0_end_2
def dkwX0_end_0 : List UInt8 := [28, 155, 0, 18, 28, 16, 9, 163, 0, 12, 27, 155, 0, 8, 27, 28, 164, 0, 7, 20, 1, 228, 173, 3]
abbrev dktX0_end_0 : List UInt8 := dkwX0_end_0 ++ dktX0_end_1
theorem dksX0_end_0 : cX0_end.data.toList.drop 0 = dktX0_end_0 := by decide +kernel
theorem dksX0_end_1 : cX0_end.data.toList.drop 24 = dktX0_end_1 := dk_seg dksX0_end_0 24 rfl rfl
theorem dksX0_end_2 : cX0_end.data.toList.drop 48 = dktX0_end_2 := dk_seg dksX0_end_1 24 rfl rfl
theorem dksX0_end_3 : cX0_end.data.toList.drop 72 = dktX0_end_3 := dk_seg dksX0_end_2 24 rfl rfl
theorem dksX0_end_4 : cX0_end.data.toList.drop 94 = dktX0_end_4 := dk_seg dksX0_end_3 22 rfl rfl
theorem dksX0_end_5 : cX0_end.data.toList.drop 117 = dktX0_end_5 := dk_seg dksX0_end_4 23 rfl rfl
theorem dksX0_end_6 : cX0_end.data.toList.drop 140 = dktX0_end_6 := dk_seg dksX0_end_5 23 rfl rfl
theorem dksX0_end_7 : cX0_end.data.toList.drop 164 = dktX0_end_7 := dk_seg dksX0_end_6 24 rfl rfl
theorem dksX0_end_8 : cX0_end.data.toList.drop 186 = dktX0_end_8 := dk_seg dksX0_end_7 22 rfl rfl
theorem dX0_end_0 : decode cX0_end 0 = .ok (.iload_n 2, 1) := dk_28 (dk_at dksX0_end_0 0 rfl rfl)
theorem dX0_end_1 : decode cX0_end 1 = .ok (.ifCond .lt 18, 3) := dk_155 0 18 (dk_at dksX0_end_0 1 rfl rfl)
theorem dX0_end_4 : decode cX0_end 4 = .ok (.iload_n 2, 1) := dk_28 (dk_at dksX0_end_0 4 rfl rfl)
theorem dX0_end_5 : decode cX0_end 5 = .ok (.bipush 9, 2) := dk_16 9 (dk_at dksX0_end_0 5 rfl rfl)
theorem dX0_end_7 : decode cX0_end 7 = .ok (.if_icmp .gt 12, 3) := dk_163 0 12 (dk_at dksX0_end_0 7 rfl rfl)
theorem dX0_end_10 : decode cX0_end 10 = .ok (.iload_n 1, 1) := dk_27 (dk_at dksX0_end_0 10 rfl rfl)
theorem dX0_end_11 : decode cX0_end 11 = .ok (.ifCond .lt 8, 3) := dk_155 0 8 (dk_at dksX0_end_0 11 rfl rfl)
theorem dX0_end_14 : decode cX0_end 14 = .ok (.iload_n 1, 1) := dk_27 (dk_at dksX0_end_0 14 rfl rfl)
theorem dX0_end_15 : decode cX0_end 15 = .ok (.iload_n 2, 1) := dk_28 (dk_at dksX0_end_0 15 rfl rfl)
theorem dX0_end_16 : decode cX0_end 16 = .ok (.if_icmp .le 7, 3) := dk_164 0 7 (dk_at dksX0_end_0 16 rfl rfl)
theorem dX0_end_19 : decode cX0_end 19 = .ok (.ldc2_w 484, 3) := dk_20 1 228 (dk_at dksX0_end_0 19 rfl rfl)
theorem dX0_end_22 : decode cX0_end 22 = .ok (.lreturn, 1) := dk_173 (dk_at dksX0_end_0 22 rfl rfl)
theorem dX0_end_23 : decode cX0_end 23 = .ok (.iconst 0, 1) := dk_3 (dk_at dksX0_end_0 23 rfl rfl)
theorem dX0_end_24 : decode cX0_end 24 = .ok (.istore_n 3, 1) := dk_62 (dk_at dksX0_end_1 0 rfl rfl)
theorem dX0_end_25 : decode cX0_end 25 = .ok (.iload_n 3, 1) := dk_29 (dk_at dksX0_end_1 1 rfl rfl)
theorem dX0_end_26 : decode cX0_end 26 = .ok (.iload_n 2, 1) := dk_28 (dk_at dksX0_end_1 2 rfl rfl)
theorem dX0_end_27 : decode cX0_end 27 = .ok (.if_icmp .gt 45, 3) := dk_163 0 45 (dk_at dksX0_end_1 3 rfl rfl)
theorem dX0_end_30 : decode cX0_end 30 = .ok (.iconst 0, 1) := dk_3 (dk_at dksX0_end_1 6 rfl rfl)
theorem dX0_end_31 : decode cX0_end 31 = .ok (.istore 4, 2) := dk_54 4 (dk_at dksX0_end_1 7 rfl rfl)
theorem dX0_end_33 : decode cX0_end 33 = .ok (.iload_n 3, 1) := dk_29 (dk_at dksX0_end_1 9 rfl rfl)
theorem dX0_end_34 : decode cX0_end 34 = .ok (.iload 4, 2) := dk_21 4 (dk_at dksX0_end_1 10 rfl rfl)
theorem dX0_end_36 : decode cX0_end 36 = .ok (.iadd, 1) := dk_96 (dk_at dksX0_end_1 12 rfl rfl)
theorem dX0_end_37 : decode cX0_end 37 = .ok (.iload_n 2, 1) := dk_28 (dk_at dksX0_end_1 13 rfl rfl)
theorem dX0_end_38 : decode cX0_end 38 = .ok (.if_icmp .gt 28, 3) := dk_163 0 28 (dk_at dksX0_end_1 14 rfl rfl)
theorem dX0_end_41 : decode cX0_end 41 = .ok (.aload_n 0, 1) := dk_42 (dk_at dksX0_end_1 17 rfl rfl)
theorem dX0_end_42 : decode cX0_end 42 = .ok (.getfield 146, 3) := dk_180 0 146 (dk_at dksX0_end_1 18 rfl rfl)
theorem dX0_end_45 : decode cX0_end 45 = .ok (.bipush 10, 2) := dk_16 10 (dk_at dksX0_end_1 21 rfl rfl)
theorem dX0_end_47 : decode cX0_end 47 = .ok (.iload_n 3, 1) := dk_29 (dk_at dksX0_end_1 23 rfl rfl)
theorem dX0_end_48 : decode cX0_end 48 = .ok (.imul, 1) := dk_104 (dk_at dksX0_end_2 0 rfl rfl)
theorem dX0_end_49 : decode cX0_end 49 = .ok (.iload 4, 2) := dk_21 4 (dk_at dksX0_end_2 1 rfl rfl)
theorem dX0_end_51 : decode cX0_end 51 = .ok (.iadd, 1) := dk_96 (dk_at dksX0_end_2 3 rfl rfl)
theorem dX0_end_52 : decode cX0_end 52 = .ok (.aload_n 0, 1) := dk_42 (dk_at dksX0_end_2 4 rfl rfl)
theorem dX0_end_53 : decode cX0_end 53 = .ok (.iload_n 3, 1) := dk_29 (dk_at dksX0_end_2 5 rfl rfl)
theorem dX0_end_54 : decode cX0_end 54 = .ok (.iload 4, 2) := dk_21 4 (dk_at dksX0_end_2 6 rfl rfl)
theorem dX0_end_56 : decode cX0_end 56 = .ok (.invokevirtual 513, 3) := dk_182 2 1 (dk_at dksX0_end_2 8 rfl rfl)
theorem dX0_end_59 : decode cX0_end 59 = .ok (.lastore, 1) := dk_80 (dk_at dksX0_end_2 11 rfl rfl)
theorem dX0_end_60 : decode cX0_end 60 = .ok (.iinc 4 1, 3) := dk_132 4 1 (dk_at dksX0_end_2 12 rfl rfl)
theorem dX0_end_63 : decode cX0_end 63 = .ok (.goto (-30), 3) := dk_167 255 226 (dk_at dksX0_end_2 15 rfl rfl)
theorem dX0_end_66 : decode cX0_end 66 = .ok (.iinc 3 1, 3) := dk_132 3 1 (dk_at dksX0_end_2 18 rfl rfl)
theorem dX0_end_69 : decode cX0_end 69 = .ok (.goto (-44), 3) := dk_167 255 212 (dk_at dksX0_end_2 21 rfl rfl)
theorem dX0_end_72 : decode cX0_end 72 = .ok (.aload_n 0, 1) := dk_42 (dk_at dksX0_end_3 0 rfl rfl)
theorem dX0_end_73 : decode cX0_end 73 = .ok (.getfield 146, 3) := dk_180 0 146 (dk_at dksX0_end_3 1 rfl rfl)
theorem dX0_end_76 : decode cX0_end 76 = .ok (.bipush 10, 2) := dk_16 10 (dk_at dksX0_end_3 4 rfl rfl)
theorem dX0_end_78 : decode cX0_end 78 = .ok (.iload_n 1, 1) := dk_27 (dk_at dksX0_end_3 6 rfl rfl)
theorem dX0_end_79 : decode cX0_end 79 = .ok (.imul, 1) := dk_104 (dk_at dksX0_end_3 7 rfl rfl)
theorem dX0_end_80 : decode cX0_end 80 = .ok (.iload_n 2, 1) := dk_28 (dk_at dksX0_end_3 8 rfl rfl)
theorem dX0_end_81 : decode cX0_end 81 = .ok (.iadd, 1) := dk_96 (dk_at dksX0_end_3 9 rfl rfl)
theorem dX0_end_82 : decode cX0_end 82 = .ok (.iload_n 1, 1) := dk_27 (dk_at dksX0_end_3 10 rfl rfl)
theorem dX0_end_83 : decode cX0_end 83 = .ok (.isub, 1) := dk_100 (dk_at dksX0_end_3 11 rfl rfl)
theorem dX0_end_84 : decode cX0_end 84 = .ok (.laload, 1) := dk_47 (dk_at dksX0_end_3 12 rfl rfl)
theorem dX0_end_85 : decode cX0_end 85 = .ok (.lstore_n 3, 1) := dk_66 (dk_at dksX0_end_3 13 rfl rfl)
theorem dX0_end_86 : decode cX0_end 86 = .ok (.iload_n 2, 1) := dk_28 (dk_at dksX0_end_3 14 rfl rfl)
theorem dX0_end_87 : decode cX0_end 87 = .ok (.iload_n 1, 1) := dk_27 (dk_at dksX0_end_3 15 rfl rfl)
theorem dX0_end_88 : decode cX0_end 88 = .ok (.isub, 1) := dk_100 (dk_at dksX0_end_3 16 rfl rfl)
theorem dX0_end_89 : decode cX0_end 89 = .ok (.istore 5, 2) := dk_54 5 (dk_at dksX0_end_3 17 rfl rfl)
theorem dX0_end_91 : decode cX0_end 91 = .ok (.iload 5, 2) := dk_21 5 (dk_at dksX0_end_3 19 rfl rfl)
theorem dX0_end_93 : decode cX0_end 93 = .ok (.iload_n 2, 1) := dk_28 (dk_at dksX0_end_3 21 rfl rfl)
theorem dX0_end_94 : decode cX0_end 94 = .ok (.if_icmp .ge 98, 3) := dk_162 0 98 (dk_at dksX0_end_4 0 rfl rfl)
theorem dX0_end_97 : decode cX0_end 97 = .ok (.lconst 0, 1) := dk_9 (dk_at dksX0_end_4 3 rfl rfl)
theorem dX0_end_98 : decode cX0_end 98 = .ok (.lstore 6, 2) := dk_55 6 (dk_at dksX0_end_4 4 rfl rfl)
theorem dX0_end_100 : decode cX0_end 100 = .ok (.lconst 0, 1) := dk_9 (dk_at dksX0_end_4 6 rfl rfl)
theorem dX0_end_101 : decode cX0_end 101 = .ok (.lstore 8, 2) := dk_55 8 (dk_at dksX0_end_4 7 rfl rfl)
theorem dX0_end_103 : decode cX0_end 103 = .ok (.iconst 0, 1) := dk_3 (dk_at dksX0_end_4 9 rfl rfl)
theorem dX0_end_104 : decode cX0_end 104 = .ok (.istore 10, 2) := dk_54 10 (dk_at dksX0_end_4 10 rfl rfl)
theorem dX0_end_106 : decode cX0_end 106 = .ok (.iload 10, 2) := dk_21 10 (dk_at dksX0_end_4 12 rfl rfl)
theorem dX0_end_108 : decode cX0_end 108 = .ok (.iload_n 2, 1) := dk_28 (dk_at dksX0_end_4 14 rfl rfl)
theorem dX0_end_109 : decode cX0_end 109 = .ok (.iload 5, 2) := dk_21 5 (dk_at dksX0_end_4 15 rfl rfl)
theorem dX0_end_111 : decode cX0_end 111 = .ok (.isub, 1) := dk_100 (dk_at dksX0_end_4 17 rfl rfl)
theorem dX0_end_112 : decode cX0_end 112 = .ok (.iconst 1, 1) := dk_4 (dk_at dksX0_end_4 18 rfl rfl)
theorem dX0_end_113 : decode cX0_end 113 = .ok (.isub, 1) := dk_100 (dk_at dksX0_end_4 19 rfl rfl)
theorem dX0_end_114 : decode cX0_end 114 = .ok (.if_icmp .gt 47, 3) := dk_163 0 47 (dk_at dksX0_end_4 20 rfl rfl)
theorem dX0_end_117 : decode cX0_end 117 = .ok (.lload 6, 2) := dk_22 6 (dk_at dksX0_end_5 0 rfl rfl)
theorem dX0_end_119 : decode cX0_end 119 = .ok (.aload_n 0, 1) := dk_42 (dk_at dksX0_end_5 2 rfl rfl)
theorem dX0_end_120 : decode cX0_end 120 = .ok (.getfield 146, 3) := dk_180 0 146 (dk_at dksX0_end_5 3 rfl rfl)
theorem dX0_end_123 : decode cX0_end 123 = .ok (.bipush 10, 2) := dk_16 10 (dk_at dksX0_end_5 6 rfl rfl)
theorem dX0_end_125 : decode cX0_end 125 = .ok (.iload 10, 2) := dk_21 10 (dk_at dksX0_end_5 8 rfl rfl)
theorem dX0_end_127 : decode cX0_end 127 = .ok (.imul, 1) := dk_104 (dk_at dksX0_end_5 10 rfl rfl)
theorem dX0_end_128 : decode cX0_end 128 = .ok (.iload 5, 2) := dk_21 5 (dk_at dksX0_end_5 11 rfl rfl)
theorem dX0_end_130 : decode cX0_end 130 = .ok (.iadd, 1) := dk_96 (dk_at dksX0_end_5 13 rfl rfl)
theorem dX0_end_131 : decode cX0_end 131 = .ok (.iconst 1, 1) := dk_4 (dk_at dksX0_end_5 14 rfl rfl)
theorem dX0_end_132 : decode cX0_end 132 = .ok (.iadd, 1) := dk_96 (dk_at dksX0_end_5 15 rfl rfl)
theorem dX0_end_133 : decode cX0_end 133 = .ok (.laload, 1) := dk_47 (dk_at dksX0_end_5 16 rfl rfl)
theorem dX0_end_134 : decode cX0_end 134 = .ok (.ladd, 1) := dk_97 (dk_at dksX0_end_5 17 rfl rfl)
theorem dX0_end_135 : decode cX0_end 135 = .ok (.lstore 6, 2) := dk_55 6 (dk_at dksX0_end_5 18 rfl rfl)
theorem dX0_end_137 : decode cX0_end 137 = .ok (.lload 8, 2) := dk_22 8 (dk_at dksX0_end_5 20 rfl rfl)
theorem dX0_end_139 : decode cX0_end 139 = .ok (.aload_n 0, 1) := dk_42 (dk_at dksX0_end_5 22 rfl rfl)
theorem dX0_end_140 : decode cX0_end 140 = .ok (.getfield 146, 3) := dk_180 0 146 (dk_at dksX0_end_6 0 rfl rfl)
theorem dX0_end_143 : decode cX0_end 143 = .ok (.bipush 10, 2) := dk_16 10 (dk_at dksX0_end_6 3 rfl rfl)
theorem dX0_end_145 : decode cX0_end 145 = .ok (.iload 10, 2) := dk_21 10 (dk_at dksX0_end_6 5 rfl rfl)
theorem dX0_end_147 : decode cX0_end 147 = .ok (.imul, 1) := dk_104 (dk_at dksX0_end_6 7 rfl rfl)
theorem dX0_end_148 : decode cX0_end 148 = .ok (.iload 5, 2) := dk_21 5 (dk_at dksX0_end_6 8 rfl rfl)
theorem dX0_end_150 : decode cX0_end 150 = .ok (.iadd, 1) := dk_96 (dk_at dksX0_end_6 10 rfl rfl)
theorem dX0_end_151 : decode cX0_end 151 = .ok (.laload, 1) := dk_47 (dk_at dksX0_end_6 11 rfl rfl)
theorem dX0_end_152 : decode cX0_end 152 = .ok (.ladd, 1) := dk_97 (dk_at dksX0_end_6 12 rfl rfl)
theorem dX0_end_153 : decode cX0_end 153 = .ok (.lstore 8, 2) := dk_55 8 (dk_at dksX0_end_6 13 rfl rfl)
theorem dX0_end_155 : decode cX0_end 155 = .ok (.iinc 10 1, 3) := dk_132 10 1 (dk_at dksX0_end_6 15 rfl rfl)
theorem dX0_end_158 : decode cX0_end 158 = .ok (.goto (-52), 3) := dk_167 255 204 (dk_at dksX0_end_6 18 rfl rfl)
theorem dX0_end_161 : decode cX0_end 161 = .ok (.lload 8, 2) := dk_22 8 (dk_at dksX0_end_6 21 rfl rfl)
theorem dX0_end_163 : decode cX0_end 163 = .ok (.lconst 0, 1) := dk_9 (dk_at dksX0_end_6 23 rfl rfl)
theorem dX0_end_164 : decode cX0_end 164 = .ok (.lcmp, 1) := dk_148 (dk_at dksX0_end_7 0 rfl rfl)
theorem dX0_end_165 : decode cX0_end 165 = .ok (.ifCond .ne 7, 3) := dk_154 0 7 (dk_at dksX0_end_7 1 rfl rfl)
theorem dX0_end_168 : decode cX0_end 168 = .ok (.lload_n 3, 1) := dk_33 (dk_at dksX0_end_7 4 rfl rfl)
theorem dX0_end_169 : decode cX0_end 169 = .ok (.goto 16, 3) := dk_167 0 16 (dk_at dksX0_end_7 5 rfl rfl)
theorem dX0_end_172 : decode cX0_end 172 = .ok (.lload_n 3, 1) := dk_33 (dk_at dksX0_end_7 8 rfl rfl)
theorem dX0_end_173 : decode cX0_end 173 = .ok (.lload 6, 2) := dk_22 6 (dk_at dksX0_end_7 9 rfl rfl)
theorem dX0_end_175 : decode cX0_end 175 = .ok (.lmul, 1) := dk_105 (dk_at dksX0_end_7 11 rfl rfl)
theorem dX0_end_176 : decode cX0_end 176 = .ok (.lload 8, 2) := dk_22 8 (dk_at dksX0_end_7 12 rfl rfl)
theorem dX0_end_178 : decode cX0_end 178 = .ok (.ldiv, 1) := dk_109 (dk_at dksX0_end_7 14 rfl rfl)
theorem dX0_end_179 : decode cX0_end 179 = .ok (.ldc2_w 517, 3) := dk_20 2 5 (dk_at dksX0_end_7 15 rfl rfl)
theorem dX0_end_182 : decode cX0_end 182 = .ok (.invokestatic 466, 3) := dk_184 1 210 (dk_at dksX0_end_7 18 rfl rfl)
theorem dX0_end_185 : decode cX0_end 185 = .ok (.lstore_n 3, 1) := dk_66 (dk_at dksX0_end_7 21 rfl rfl)
theorem dX0_end_186 : decode cX0_end 186 = .ok (.iinc 5 1, 3) := dk_132 5 1 (dk_at dksX0_end_8 0 rfl rfl)
theorem dX0_end_189 : decode cX0_end 189 = .ok (.goto (-98), 3) := dk_167 255 158 (dk_at dksX0_end_8 3 rfl rfl)
theorem dX0_end_192 : decode cX0_end 192 = .ok (.lload_n 3, 1) := dk_33 (dk_at dksX0_end_8 6 rfl rfl)
theorem dX0_end_193 : decode cX0_end 193 = .ok (.lreturn, 1) := dk_173 (dk_at dksX0_end_8 7 rfl rfl)
abbrev cX0_size : ByteArray := prog_1_method_55_code
def yX0_size : MethodName := ⟨RX0, "size", "(II)I"⟩
def dkwX0_size_3 : List UInt8 := [29, 172]
abbrev dktX0_size_3 : List UInt8 := dkwX0_size_3 ++ []
def dkwX0_size_2 : List UInt8 := [42, 180, 0, 149, 27, 28, 79, 42, 89, 180, 2, 7, 28, 29, 100, 96, 181, 2, 7, 42, 3, 181, 2, 10]
abbrev dktX0_size_2 : List UInt8 := dkwX0_size_2 ++ dktX0_size_3
def dkwX0_size_1 : List UInt8 := [42, 180, 0, 149, 27, 46, 62, 42, 180, 2, 7, 29, 100, 28, 96, 17, 0, 200, 164, 0, 6, 16, 252, 172]
abbrev dktX0_size_1 : List UInt8 := dkwX0_size_1 ++ dktX0_size_2
def dkwX0_size_0 : List UInt8 := [27, 155, 0, 20, 27, 17, 1, 144, 163, 0, 13, 28, 155, 0, 9, 28, 16, 100, 164, 0, 6, 16, 254, 172]
abbrev dktX0_size_0 : List UInt8 := dkwX0_size_0 ++ dktX0_size_1
theorem dksX0_size_0 : cX0_size.data.toList.drop 0 = dktX0_size_0 := by decide +kernel
theorem dksX0_size_1 : cX0_size.data.toList.drop 24 = dktX0_size_1 := dk_seg dksX0_size_0 24 rfl rfl
theorem dksX0_size_2 : cX0_size.data.toList.drop 48 = dktX0_size_2 := dk_seg dksX0_size_1 24 rfl rfl
theorem dksX0_size_3 : cX0_size.data.toList.drop 72 = dktX0_size_3 := dk_seg dksX0_size_2 24 rfl rfl
theorem dX0_size_0 : decode cX0_size 0 = .ok (.iload_n 1, 1) := dk_27 (dk_at dksX0_size_0 0 rfl rfl)
theorem dX0_size_1 : decode cX0_size 1 = .ok (.ifCond .lt 20, 3) := dk_155 0 20 (dk_at dksX0_size_0 1 rfl rfl)
theorem dX0_size_4 : decode cX0_size 4 = .ok (.iload_n 1, 1) := dk_27 (dk_at dksX0_size_0 4 rfl rfl)
theorem dX0_size_5 : decode cX0_size 5 = .ok (.sipush 400, 3) := dk_17 1 144 (dk_at dksX0_size_0 5 rfl rfl)
theorem dX0_size_8 : decode cX0_size 8 = .ok (.if_icmp .gt 13, 3) := dk_163 0 13 (dk_at dksX0_size_0 8 rfl rfl)
theorem dX0_size_11 : decode cX0_size 11 = .ok (.iload_n 2, 1) := dk_28 (dk_at dksX0_size_0 11 rfl rfl)
theorem dX0_size_12 : decode cX0_size 12 = .ok (.ifCond .lt 9, 3) := dk_155 0 9 (dk_at dksX0_size_0 12 rfl rfl)
theorem dX0_size_15 : decode cX0_size 15 = .ok (.iload_n 2, 1) := dk_28 (dk_at dksX0_size_0 15 rfl rfl)
theorem dX0_size_16 : decode cX0_size 16 = .ok (.bipush 100, 2) := dk_16 100 (dk_at dksX0_size_0 16 rfl rfl)
theorem dX0_size_18 : decode cX0_size 18 = .ok (.if_icmp .le 6, 3) := dk_164 0 6 (dk_at dksX0_size_0 18 rfl rfl)
theorem dX0_size_21 : decode cX0_size 21 = .ok (.bipush (-2), 2) := dk_16 254 (dk_at dksX0_size_0 21 rfl rfl)
theorem dX0_size_23 : decode cX0_size 23 = .ok (.ireturn, 1) := dk_172 (dk_at dksX0_size_0 23 rfl rfl)
theorem dX0_size_24 : decode cX0_size 24 = .ok (.aload_n 0, 1) := dk_42 (dk_at dksX0_size_1 0 rfl rfl)
theorem dX0_size_25 : decode cX0_size 25 = .ok (.getfield 149, 3) := dk_180 0 149 (dk_at dksX0_size_1 1 rfl rfl)
theorem dX0_size_28 : decode cX0_size 28 = .ok (.iload_n 1, 1) := dk_27 (dk_at dksX0_size_1 4 rfl rfl)
theorem dX0_size_29 : decode cX0_size 29 = .ok (.iaload, 1) := dk_46 (dk_at dksX0_size_1 5 rfl rfl)
theorem dX0_size_30 : decode cX0_size 30 = .ok (.istore_n 3, 1) := dk_62 (dk_at dksX0_size_1 6 rfl rfl)
theorem dX0_size_31 : decode cX0_size 31 = .ok (.aload_n 0, 1) := dk_42 (dk_at dksX0_size_1 7 rfl rfl)
theorem dX0_size_32 : decode cX0_size 32 = .ok (.getfield 519, 3) := dk_180 2 7 (dk_at dksX0_size_1 8 rfl rfl)
theorem dX0_size_35 : decode cX0_size 35 = .ok (.iload_n 3, 1) := dk_29 (dk_at dksX0_size_1 11 rfl rfl)
theorem dX0_size_36 : decode cX0_size 36 = .ok (.isub, 1) := dk_100 (dk_at dksX0_size_1 12 rfl rfl)
theorem dX0_size_37 : decode cX0_size 37 = .ok (.iload_n 2, 1) := dk_28 (dk_at dksX0_size_1 13 rfl rfl)
theorem dX0_size_38 : decode cX0_size 38 = .ok (.iadd, 1) := dk_96 (dk_at dksX0_size_1 14 rfl rfl)
theorem dX0_size_39 : decode cX0_size 39 = .ok (.sipush 200, 3) := dk_17 0 200 (dk_at dksX0_size_1 15 rfl rfl)
theorem dX0_size_42 : decode cX0_size 42 = .ok (.if_icmp .le 6, 3) := dk_164 0 6 (dk_at dksX0_size_1 18 rfl rfl)
theorem dX0_size_45 : decode cX0_size 45 = .ok (.bipush (-4), 2) := dk_16 252 (dk_at dksX0_size_1 21 rfl rfl)
theorem dX0_size_47 : decode cX0_size 47 = .ok (.ireturn, 1) := dk_172 (dk_at dksX0_size_1 23 rfl rfl)
theorem dX0_size_48 : decode cX0_size 48 = .ok (.aload_n 0, 1) := dk_42 (dk_at dksX0_size_2 0 rfl rfl)
theorem dX0_size_49 : decode cX0_size 49 = .ok (.getfield 149, 3) := dk_180 0 149 (dk_at dksX0_size_2 1 rfl rfl)
theorem dX0_size_52 : decode cX0_size 52 = .ok (.iload_n 1, 1) := dk_27 (dk_at dksX0_size_2 4 rfl rfl)
theorem dX0_size_53 : decode cX0_size 53 = .ok (.iload_n 2, 1) := dk_28 (dk_at dksX0_size_2 5 rfl rfl)
theorem dX0_size_54 : decode cX0_size 54 = .ok (.iastore, 1) := dk_79 (dk_at dksX0_size_2 6 rfl rfl)
theorem dX0_size_55 : decode cX0_size 55 = .ok (.aload_n 0, 1) := dk_42 (dk_at dksX0_size_2 7 rfl rfl)
theorem dX0_size_56 : decode cX0_size 56 = .ok (.dup, 1) := dk_89 (dk_at dksX0_size_2 8 rfl rfl)
theorem dX0_size_57 : decode cX0_size 57 = .ok (.getfield 519, 3) := dk_180 2 7 (dk_at dksX0_size_2 9 rfl rfl)
theorem dX0_size_60 : decode cX0_size 60 = .ok (.iload_n 2, 1) := dk_28 (dk_at dksX0_size_2 12 rfl rfl)
theorem dX0_size_61 : decode cX0_size 61 = .ok (.iload_n 3, 1) := dk_29 (dk_at dksX0_size_2 13 rfl rfl)
theorem dX0_size_62 : decode cX0_size 62 = .ok (.isub, 1) := dk_100 (dk_at dksX0_size_2 14 rfl rfl)
theorem dX0_size_63 : decode cX0_size 63 = .ok (.iadd, 1) := dk_96 (dk_at dksX0_size_2 15 rfl rfl)
theorem dX0_size_64 : decode cX0_size 64 = .ok (.putfield 519, 3) := dk_181 2 7 (dk_at dksX0_size_2 16 rfl rfl)
theorem dX0_size_67 : decode cX0_size 67 = .ok (.aload_n 0, 1) := dk_42 (dk_at dksX0_size_2 19 rfl rfl)
theorem dX0_size_68 : decode cX0_size 68 = .ok (.iconst 0, 1) := dk_3 (dk_at dksX0_size_2 20 rfl rfl)
theorem dX0_size_69 : decode cX0_size 69 = .ok (.putfield 522, 3) := dk_181 2 10 (dk_at dksX0_size_2 21 rfl rfl)
theorem dX0_size_72 : decode cX0_size 72 = .ok (.iload_n 3, 1) := dk_29 (dk_at dksX0_size_3 0 rfl rfl)
theorem dX0_size_73 : decode cX0_size 73 = .ok (.ireturn, 1) := dk_172 (dk_at dksX0_size_3 1 rfl rfl)
abbrev cX0_count : ByteArray := prog_1_method_56_code
def yX0_count : MethodName := ⟨RX0, "count", "(II)I"⟩
def dkwX0_count_1 : List UInt8 := [180, 0, 152, 27, 46, 62, 42, 180, 0, 152, 27, 28, 79, 42, 3, 181, 2, 10, 29, 172]
abbrev dktX0_count_1 : List UInt8 := dkwX0_count_1 ++ []
def dkwX0_count_0 : List UInt8 := [27, 155, 0, 19, 27, 7, 163, 0, 14, 28, 155, 0, 10, 28, 17, 0, 200, 164, 0, 6, 16, 254, 172, 42]
abbrev dktX0_count_0 : List UInt8 := dkwX0_count_0 ++ dktX0_count_1
theorem dksX0_count_0 : cX0_count.data.toList.drop 0 = dktX0_count_0 := by decide +kernel
theorem dksX0_count_1 : cX0_count.data.toList.drop 24 = dktX0_count_1 := dk_seg dksX0_count_0 24 rfl rfl
theorem dX0_count_0 : decode cX0_count 0 = .ok (.iload_n 1, 1) := dk_27 (dk_at dksX0_count_0 0 rfl rfl)
theorem dX0_count_1 : decode cX0_count 1 = .ok (.ifCond .lt 19, 3) := dk_155 0 19 (dk_at dksX0_count_0 1 rfl rfl)
theorem dX0_count_4 : decode cX0_count 4 = .ok (.iload_n 1, 1) := dk_27 (dk_at dksX0_count_0 4 rfl rfl)
theorem dX0_count_5 : decode cX0_count 5 = .ok (.iconst 4, 1) := dk_7 (dk_at dksX0_count_0 5 rfl rfl)
theorem dX0_count_6 : decode cX0_count 6 = .ok (.if_icmp .gt 14, 3) := dk_163 0 14 (dk_at dksX0_count_0 6 rfl rfl)
theorem dX0_count_9 : decode cX0_count 9 = .ok (.iload_n 2, 1) := dk_28 (dk_at dksX0_count_0 9 rfl rfl)
theorem dX0_count_10 : decode cX0_count 10 = .ok (.ifCond .lt 10, 3) := dk_155 0 10 (dk_at dksX0_count_0 10 rfl rfl)
theorem dX0_count_13 : decode cX0_count 13 = .ok (.iload_n 2, 1) := dk_28 (dk_at dksX0_count_0 13 rfl rfl)
theorem dX0_count_14 : decode cX0_count 14 = .ok (.sipush 200, 3) := dk_17 0 200 (dk_at dksX0_count_0 14 rfl rfl)
theorem dX0_count_17 : decode cX0_count 17 = .ok (.if_icmp .le 6, 3) := dk_164 0 6 (dk_at dksX0_count_0 17 rfl rfl)
theorem dX0_count_20 : decode cX0_count 20 = .ok (.bipush (-2), 2) := dk_16 254 (dk_at dksX0_count_0 20 rfl rfl)
theorem dX0_count_22 : decode cX0_count 22 = .ok (.ireturn, 1) := dk_172 (dk_at dksX0_count_0 22 rfl rfl)
theorem dX0_count_23 : decode cX0_count 23 = .ok (.aload_n 0, 1) := dk_42 (dk_at dksX0_count_0 23 rfl rfl)
theorem dX0_count_24 : decode cX0_count 24 = .ok (.getfield 152, 3) := dk_180 0 152 (dk_at dksX0_count_1 0 rfl rfl)
theorem dX0_count_27 : decode cX0_count 27 = .ok (.iload_n 1, 1) := dk_27 (dk_at dksX0_count_1 3 rfl rfl)
theorem dX0_count_28 : decode cX0_count 28 = .ok (.iaload, 1) := dk_46 (dk_at dksX0_count_1 4 rfl rfl)
theorem dX0_count_29 : decode cX0_count 29 = .ok (.istore_n 3, 1) := dk_62 (dk_at dksX0_count_1 5 rfl rfl)
theorem dX0_count_30 : decode cX0_count 30 = .ok (.aload_n 0, 1) := dk_42 (dk_at dksX0_count_1 6 rfl rfl)
theorem dX0_count_31 : decode cX0_count 31 = .ok (.getfield 152, 3) := dk_180 0 152 (dk_at dksX0_count_1 7 rfl rfl)
theorem dX0_count_34 : decode cX0_count 34 = .ok (.iload_n 1, 1) := dk_27 (dk_at dksX0_count_1 10 rfl rfl)
theorem dX0_count_35 : decode cX0_count 35 = .ok (.iload_n 2, 1) := dk_28 (dk_at dksX0_count_1 11 rfl rfl)
theorem dX0_count_36 : decode cX0_count 36 = .ok (.iastore, 1) := dk_79 (dk_at dksX0_count_1 12 rfl rfl)
theorem dX0_count_37 : decode cX0_count 37 = .ok (.aload_n 0, 1) := dk_42 (dk_at dksX0_count_1 13 rfl rfl)
theorem dX0_count_38 : decode cX0_count 38 = .ok (.iconst 0, 1) := dk_3 (dk_at dksX0_count_1 14 rfl rfl)
theorem dX0_count_39 : decode cX0_count 39 = .ok (.putfield 522, 3) := dk_181 2 10 (dk_at dksX0_count_1 15 rfl rfl)
theorem dX0_count_42 : decode cX0_count 42 = .ok (.iload_n 3, 1) := dk_29 (dk_at dksX0_count_1 18 rfl rfl)
theorem dX0_count_43 : decode cX0_count 43 = .ok (.ireturn, 1) := dk_172 (dk_at dksX0_count_1 19 rfl rfl)
abbrev cX0_mass : ByteArray := prog_1_method_59_code
def yX0_mass : MethodName := ⟨RX0, "mass", "(I)J"⟩
def dkwX0_mass_2 : List UInt8 := [97, 65, 132, 4, 1, 167, 255, 230, 32, 173]
abbrev dktX0_mass_2 : List UInt8 := dkwX0_mass_2 ++ []
def dkwX0_mass_1 : List UInt8 := [3, 54, 4, 21, 4, 17, 6, 64, 163, 0, 24, 27, 2, 160, 0, 19, 32, 42, 180, 0, 155, 21, 4, 47]
abbrev dktX0_mass_1 : List UInt8 := dkwX0_mass_1 ++ dktX0_mass_2
def dkwX0_mass_0 : List UInt8 := [42, 182, 2, 16, 27, 155, 0, 17, 27, 17, 6, 64, 163, 0, 10, 42, 180, 0, 155, 27, 47, 173, 9, 65]
abbrev dktX0_mass_0 : List UInt8 := dkwX0_mass_0 ++ dktX0_mass_1
theorem dksX0_mass_0 : cX0_mass.data.toList.drop 0 = dktX0_mass_0 := by decide +kernel
theorem dksX0_mass_1 : cX0_mass.data.toList.drop 24 = dktX0_mass_1 := dk_seg dksX0_mass_0 24 rfl rfl
theorem dksX0_mass_2 : cX0_mass.data.toList.drop 48 = dktX0_mass_2 := dk_seg dksX0_mass_1 24 rfl rfl
theorem dX0_mass_0 : decode cX0_mass 0 = .ok (.aload_n 0, 1) := dk_42 (dk_at dksX0_mass_0 0 rfl rfl)
theorem dX0_mass_1 : decode cX0_mass 1 = .ok (.invokevirtual 528, 3) := dk_182 2 16 (dk_at dksX0_mass_0 1 rfl rfl)
theorem dX0_mass_4 : decode cX0_mass 4 = .ok (.iload_n 1, 1) := dk_27 (dk_at dksX0_mass_0 4 rfl rfl)
theorem dX0_mass_5 : decode cX0_mass 5 = .ok (.ifCond .lt 17, 3) := dk_155 0 17 (dk_at dksX0_mass_0 5 rfl rfl)
theorem dX0_mass_8 : decode cX0_mass 8 = .ok (.iload_n 1, 1) := dk_27 (dk_at dksX0_mass_0 8 rfl rfl)
theorem dX0_mass_9 : decode cX0_mass 9 = .ok (.sipush 1600, 3) := dk_17 6 64 (dk_at dksX0_mass_0 9 rfl rfl)
theorem dX0_mass_12 : decode cX0_mass 12 = .ok (.if_icmp .gt 10, 3) := dk_163 0 10 (dk_at dksX0_mass_0 12 rfl rfl)
theorem dX0_mass_15 : decode cX0_mass 15 = .ok (.aload_n 0, 1) := dk_42 (dk_at dksX0_mass_0 15 rfl rfl)
theorem dX0_mass_16 : decode cX0_mass 16 = .ok (.getfield 155, 3) := dk_180 0 155 (dk_at dksX0_mass_0 16 rfl rfl)
theorem dX0_mass_19 : decode cX0_mass 19 = .ok (.iload_n 1, 1) := dk_27 (dk_at dksX0_mass_0 19 rfl rfl)
theorem dX0_mass_20 : decode cX0_mass 20 = .ok (.laload, 1) := dk_47 (dk_at dksX0_mass_0 20 rfl rfl)
theorem dX0_mass_21 : decode cX0_mass 21 = .ok (.lreturn, 1) := dk_173 (dk_at dksX0_mass_0 21 rfl rfl)
theorem dX0_mass_22 : decode cX0_mass 22 = .ok (.lconst 0, 1) := dk_9 (dk_at dksX0_mass_0 22 rfl rfl)
theorem dX0_mass_23 : decode cX0_mass 23 = .ok (.lstore_n 2, 1) := dk_65 (dk_at dksX0_mass_0 23 rfl rfl)
theorem dX0_mass_24 : decode cX0_mass 24 = .ok (.iconst 0, 1) := dk_3 (dk_at dksX0_mass_1 0 rfl rfl)
theorem dX0_mass_25 : decode cX0_mass 25 = .ok (.istore 4, 2) := dk_54 4 (dk_at dksX0_mass_1 1 rfl rfl)
theorem dX0_mass_27 : decode cX0_mass 27 = .ok (.iload 4, 2) := dk_21 4 (dk_at dksX0_mass_1 3 rfl rfl)
theorem dX0_mass_29 : decode cX0_mass 29 = .ok (.sipush 1600, 3) := dk_17 6 64 (dk_at dksX0_mass_1 5 rfl rfl)
theorem dX0_mass_32 : decode cX0_mass 32 = .ok (.if_icmp .gt 24, 3) := dk_163 0 24 (dk_at dksX0_mass_1 8 rfl rfl)
theorem dX0_mass_35 : decode cX0_mass 35 = .ok (.iload_n 1, 1) := dk_27 (dk_at dksX0_mass_1 11 rfl rfl)
theorem dX0_mass_36 : decode cX0_mass 36 = .ok (.iconst (-1), 1) := dk_2 (dk_at dksX0_mass_1 12 rfl rfl)
theorem dX0_mass_37 : decode cX0_mass 37 = .ok (.if_icmp .ne 19, 3) := dk_160 0 19 (dk_at dksX0_mass_1 13 rfl rfl)
theorem dX0_mass_40 : decode cX0_mass 40 = .ok (.lload_n 2, 1) := dk_32 (dk_at dksX0_mass_1 16 rfl rfl)
theorem dX0_mass_41 : decode cX0_mass 41 = .ok (.aload_n 0, 1) := dk_42 (dk_at dksX0_mass_1 17 rfl rfl)
theorem dX0_mass_42 : decode cX0_mass 42 = .ok (.getfield 155, 3) := dk_180 0 155 (dk_at dksX0_mass_1 18 rfl rfl)
theorem dX0_mass_45 : decode cX0_mass 45 = .ok (.iload 4, 2) := dk_21 4 (dk_at dksX0_mass_1 21 rfl rfl)
theorem dX0_mass_47 : decode cX0_mass 47 = .ok (.laload, 1) := dk_47 (dk_at dksX0_mass_1 23 rfl rfl)
theorem dX0_mass_48 : decode cX0_mass 48 = .ok (.ladd, 1) := dk_97 (dk_at dksX0_mass_2 0 rfl rfl)
theorem dX0_mass_49 : decode cX0_mass 49 = .ok (.lstore_n 2, 1) := dk_65 (dk_at dksX0_mass_2 1 rfl rfl)
theorem dX0_mass_50 : decode cX0_mass 50 = .ok (.iinc 4 1, 3) := dk_132 4 1 (dk_at dksX0_mass_2 2 rfl rfl)
theorem dX0_mass_53 : decode cX0_mass 53 = .ok (.goto (-26), 3) := dk_167 255 230 (dk_at dksX0_mass_2 5 rfl rfl)
theorem dX0_mass_56 : decode cX0_mass 56 = .ok (.lload_n 2, 1) := dk_32 (dk_at dksX0_mass_2 8 rfl rfl)
theorem dX0_mass_57 : decode cX0_mass 57 = .ok (.lreturn, 1) := dk_173 (dk_at dksX0_mass_2 9 rfl rfl)
abbrev cX0_findMasses : ByteArray := prog_1_method_58_code
def yX0_findMasses : MethodName := ⟨RX0, "findMasses", "()V"⟩
def dkwX0_findMasses_7 : List UInt8 := [167, 255, 168, 177]
abbrev dktX0_findMasses_7 : List UInt8 := dkwX0_findMasses_7 ++ []
def dkwX0_findMasses_6 : List UInt8 := [42, 180, 2, 7, 154, 0, 7, 9, 167, 0, 10, 31, 42, 180, 2, 7, 133, 109, 64, 132, 3, 1]
abbrev dktX0_findMasses_6 : List UInt8 := dkwX0_findMasses_6 ++ dktX0_findMasses_7
def dkwX0_findMasses_5 : List UInt8 := [180, 0, 158, 21, 4, 47, 105, 97, 80, 132, 4, 1, 167, 255, 218, 29, 6, 160, 0, 7, 10, 167, 0, 21]
abbrev dktX0_findMasses_5 : List UInt8 := dkwX0_findMasses_5 ++ dktX0_findMasses_6
def dkwX0_findMasses_4 : List UInt8 := [17, 6, 64, 163, 0, 36, 42, 180, 0, 155, 21, 4, 92, 47, 42, 180, 0, 152, 29, 46, 133, 31, 105, 42]
abbrev dktX0_findMasses_4 : List UInt8 := dkwX0_findMasses_4 ++ dktX0_findMasses_5
def dkwX0_findMasses_3 : List UInt8 := [167, 255, 224, 3, 62, 29, 7, 163, 0, 89, 29, 158, 0, 7, 42, 182, 2, 13, 3, 54, 4, 21, 4]
abbrev dktX0_findMasses_3 : List UInt8 := dkwX0_findMasses_3 ++ dktX0_findMasses_4
def dkwX0_findMasses_2 : List UInt8 := [180, 0, 155, 29, 9, 80, 42, 180, 0, 158, 29, 29, 154, 0, 7, 10, 167, 0, 4, 9, 80, 132, 3, 1]
abbrev dktX0_findMasses_2 : List UInt8 := dkwX0_findMasses_2 ++ dktX0_findMasses_3
def dkwX0_findMasses_1 : List UInt8 := [180, 2, 7, 133, 105, 64, 132, 3, 1, 167, 255, 240, 3, 62, 29, 17, 6, 64, 163, 0, 31, 42]
abbrev dktX0_findMasses_1 : List UInt8 := dkwX0_findMasses_1 ++ dktX0_findMasses_2
def dkwX0_findMasses_0 : List UInt8 := [42, 180, 2, 10, 153, 0, 4, 177, 42, 4, 181, 2, 10, 10, 64, 3, 62, 29, 7, 162, 0, 17, 31, 42]
abbrev dktX0_findMasses_0 : List UInt8 := dkwX0_findMasses_0 ++ dktX0_findMasses_1
theorem dksX0_findMasses_0 : cX0_findMasses.data.toList.drop 0 = dktX0_findMasses_0 := by decide +kernel
theorem dksX0_findMasses_1 : cX0_findMasses.data.toList.drop 24 = dktX0_findMasses_1 := dk_seg dksX0_findMasses_0 24 rfl rfl
theorem dksX0_findMasses_2 : cX0_findMasses.data.toList.drop 46 = dktX0_findMasses_2 := dk_seg dksX0_findMasses_1 22 rfl rfl
theorem dksX0_findMasses_3 : cX0_findMasses.data.toList.drop 70 = dktX0_findMasses_3 := dk_seg dksX0_findMasses_2 24 rfl rfl
theorem dksX0_findMasses_4 : cX0_findMasses.data.toList.drop 93 = dktX0_findMasses_4 := dk_seg dksX0_findMasses_3 23 rfl rfl
theorem dksX0_findMasses_5 : cX0_findMasses.data.toList.drop 117 = dktX0_findMasses_5 := dk_seg dksX0_findMasses_4 24 rfl rfl
theorem dksX0_findMasses_6 : cX0_findMasses.data.toList.drop 141 = dktX0_findMasses_6 := dk_seg dksX0_findMasses_5 24 rfl rfl
theorem dksX0_findMasses_7 : cX0_findMasses.data.toList.drop 163 = dktX0_findMasses_7 := dk_seg dksX0_findMasses_6 22 rfl rfl
theorem dX0_findMasses_0 : decode cX0_findMasses 0 = .ok (.aload_n 0, 1) := dk_42 (dk_at dksX0_findMasses_0 0 rfl rfl)
theorem dX0_findMasses_1 : decode cX0_findMasses 1 = .ok (.getfield 522, 3) := dk_180 2 10 (dk_at dksX0_findMasses_0 1 rfl rfl)
theorem dX0_findMasses_4 : decode cX0_findMasses 4 = .ok (.ifCond .eq 4, 3) := dk_153 0 4 (dk_at dksX0_findMasses_0 4 rfl rfl)
theorem dX0_findMasses_7 : decode cX0_findMasses 7 = .ok (.return_, 1) := dk_177 (dk_at dksX0_findMasses_0 7 rfl rfl)
theorem dX0_findMasses_8 : decode cX0_findMasses 8 = .ok (.aload_n 0, 1) := dk_42 (dk_at dksX0_findMasses_0 8 rfl rfl)
theorem dX0_findMasses_9 : decode cX0_findMasses 9 = .ok (.iconst 1, 1) := dk_4 (dk_at dksX0_findMasses_0 9 rfl rfl)
theorem dX0_findMasses_10 : decode cX0_findMasses 10 = .ok (.putfield 522, 3) := dk_181 2 10 (dk_at dksX0_findMasses_0 10 rfl rfl)
theorem dX0_findMasses_13 : decode cX0_findMasses 13 = .ok (.lconst 1, 1) := dk_10 (dk_at dksX0_findMasses_0 13 rfl rfl)
theorem dX0_findMasses_14 : decode cX0_findMasses 14 = .ok (.lstore_n 1, 1) := dk_64 (dk_at dksX0_findMasses_0 14 rfl rfl)
theorem dX0_findMasses_15 : decode cX0_findMasses 15 = .ok (.iconst 0, 1) := dk_3 (dk_at dksX0_findMasses_0 15 rfl rfl)
theorem dX0_findMasses_16 : decode cX0_findMasses 16 = .ok (.istore_n 3, 1) := dk_62 (dk_at dksX0_findMasses_0 16 rfl rfl)
theorem dX0_findMasses_17 : decode cX0_findMasses 17 = .ok (.iload_n 3, 1) := dk_29 (dk_at dksX0_findMasses_0 17 rfl rfl)
theorem dX0_findMasses_18 : decode cX0_findMasses 18 = .ok (.iconst 4, 1) := dk_7 (dk_at dksX0_findMasses_0 18 rfl rfl)
theorem dX0_findMasses_19 : decode cX0_findMasses 19 = .ok (.if_icmp .ge 17, 3) := dk_162 0 17 (dk_at dksX0_findMasses_0 19 rfl rfl)
theorem dX0_findMasses_22 : decode cX0_findMasses 22 = .ok (.lload_n 1, 1) := dk_31 (dk_at dksX0_findMasses_0 22 rfl rfl)
theorem dX0_findMasses_23 : decode cX0_findMasses 23 = .ok (.aload_n 0, 1) := dk_42 (dk_at dksX0_findMasses_0 23 rfl rfl)
theorem dX0_findMasses_24 : decode cX0_findMasses 24 = .ok (.getfield 519, 3) := dk_180 2 7 (dk_at dksX0_findMasses_1 0 rfl rfl)
theorem dX0_findMasses_27 : decode cX0_findMasses 27 = .ok (.i2l, 1) := dk_133 (dk_at dksX0_findMasses_1 3 rfl rfl)
theorem dX0_findMasses_28 : decode cX0_findMasses 28 = .ok (.lmul, 1) := dk_105 (dk_at dksX0_findMasses_1 4 rfl rfl)
theorem dX0_findMasses_29 : decode cX0_findMasses 29 = .ok (.lstore_n 1, 1) := dk_64 (dk_at dksX0_findMasses_1 5 rfl rfl)
theorem dX0_findMasses_30 : decode cX0_findMasses 30 = .ok (.iinc 3 1, 3) := dk_132 3 1 (dk_at dksX0_findMasses_1 6 rfl rfl)
theorem dX0_findMasses_33 : decode cX0_findMasses 33 = .ok (.goto (-16), 3) := dk_167 255 240 (dk_at dksX0_findMasses_1 9 rfl rfl)
theorem dX0_findMasses_36 : decode cX0_findMasses 36 = .ok (.iconst 0, 1) := dk_3 (dk_at dksX0_findMasses_1 12 rfl rfl)
theorem dX0_findMasses_37 : decode cX0_findMasses 37 = .ok (.istore_n 3, 1) := dk_62 (dk_at dksX0_findMasses_1 13 rfl rfl)
theorem dX0_findMasses_38 : decode cX0_findMasses 38 = .ok (.iload_n 3, 1) := dk_29 (dk_at dksX0_findMasses_1 14 rfl rfl)
theorem dX0_findMasses_39 : decode cX0_findMasses 39 = .ok (.sipush 1600, 3) := dk_17 6 64 (dk_at dksX0_findMasses_1 15 rfl rfl)
theorem dX0_findMasses_42 : decode cX0_findMasses 42 = .ok (.if_icmp .gt 31, 3) := dk_163 0 31 (dk_at dksX0_findMasses_1 18 rfl rfl)
theorem dX0_findMasses_45 : decode cX0_findMasses 45 = .ok (.aload_n 0, 1) := dk_42 (dk_at dksX0_findMasses_1 21 rfl rfl)
theorem dX0_findMasses_46 : decode cX0_findMasses 46 = .ok (.getfield 155, 3) := dk_180 0 155 (dk_at dksX0_findMasses_2 0 rfl rfl)
theorem dX0_findMasses_49 : decode cX0_findMasses 49 = .ok (.iload_n 3, 1) := dk_29 (dk_at dksX0_findMasses_2 3 rfl rfl)
theorem dX0_findMasses_50 : decode cX0_findMasses 50 = .ok (.lconst 0, 1) := dk_9 (dk_at dksX0_findMasses_2 4 rfl rfl)
theorem dX0_findMasses_51 : decode cX0_findMasses 51 = .ok (.lastore, 1) := dk_80 (dk_at dksX0_findMasses_2 5 rfl rfl)
theorem dX0_findMasses_52 : decode cX0_findMasses 52 = .ok (.aload_n 0, 1) := dk_42 (dk_at dksX0_findMasses_2 6 rfl rfl)
theorem dX0_findMasses_53 : decode cX0_findMasses 53 = .ok (.getfield 158, 3) := dk_180 0 158 (dk_at dksX0_findMasses_2 7 rfl rfl)
theorem dX0_findMasses_56 : decode cX0_findMasses 56 = .ok (.iload_n 3, 1) := dk_29 (dk_at dksX0_findMasses_2 10 rfl rfl)
theorem dX0_findMasses_57 : decode cX0_findMasses 57 = .ok (.iload_n 3, 1) := dk_29 (dk_at dksX0_findMasses_2 11 rfl rfl)
theorem dX0_findMasses_58 : decode cX0_findMasses 58 = .ok (.ifCond .ne 7, 3) := dk_154 0 7 (dk_at dksX0_findMasses_2 12 rfl rfl)
theorem dX0_findMasses_61 : decode cX0_findMasses 61 = .ok (.lconst 1, 1) := dk_10 (dk_at dksX0_findMasses_2 15 rfl rfl)
theorem dX0_findMasses_62 : decode cX0_findMasses 62 = .ok (.goto 4, 3) := dk_167 0 4 (dk_at dksX0_findMasses_2 16 rfl rfl)
theorem dX0_findMasses_65 : decode cX0_findMasses 65 = .ok (.lconst 0, 1) := dk_9 (dk_at dksX0_findMasses_2 19 rfl rfl)
theorem dX0_findMasses_66 : decode cX0_findMasses 66 = .ok (.lastore, 1) := dk_80 (dk_at dksX0_findMasses_2 20 rfl rfl)
theorem dX0_findMasses_67 : decode cX0_findMasses 67 = .ok (.iinc 3 1, 3) := dk_132 3 1 (dk_at dksX0_findMasses_2 21 rfl rfl)
theorem dX0_findMasses_70 : decode cX0_findMasses 70 = .ok (.goto (-32), 3) := dk_167 255 224 (dk_at dksX0_findMasses_3 0 rfl rfl)
theorem dX0_findMasses_73 : decode cX0_findMasses 73 = .ok (.iconst 0, 1) := dk_3 (dk_at dksX0_findMasses_3 3 rfl rfl)
theorem dX0_findMasses_74 : decode cX0_findMasses 74 = .ok (.istore_n 3, 1) := dk_62 (dk_at dksX0_findMasses_3 4 rfl rfl)
theorem dX0_findMasses_75 : decode cX0_findMasses 75 = .ok (.iload_n 3, 1) := dk_29 (dk_at dksX0_findMasses_3 5 rfl rfl)
theorem dX0_findMasses_76 : decode cX0_findMasses 76 = .ok (.iconst 4, 1) := dk_7 (dk_at dksX0_findMasses_3 6 rfl rfl)
theorem dX0_findMasses_77 : decode cX0_findMasses 77 = .ok (.if_icmp .gt 89, 3) := dk_163 0 89 (dk_at dksX0_findMasses_3 7 rfl rfl)
theorem dX0_findMasses_80 : decode cX0_findMasses 80 = .ok (.iload_n 3, 1) := dk_29 (dk_at dksX0_findMasses_3 10 rfl rfl)
theorem dX0_findMasses_81 : decode cX0_findMasses 81 = .ok (.ifCond .le 7, 3) := dk_158 0 7 (dk_at dksX0_findMasses_3 11 rfl rfl)
theorem dX0_findMasses_84 : decode cX0_findMasses 84 = .ok (.aload_n 0, 1) := dk_42 (dk_at dksX0_findMasses_3 14 rfl rfl)
theorem dX0_findMasses_85 : decode cX0_findMasses 85 = .ok (.invokevirtual 525, 3) := dk_182 2 13 (dk_at dksX0_findMasses_3 15 rfl rfl)
theorem dX0_findMasses_88 : decode cX0_findMasses 88 = .ok (.iconst 0, 1) := dk_3 (dk_at dksX0_findMasses_3 18 rfl rfl)
theorem dX0_findMasses_89 : decode cX0_findMasses 89 = .ok (.istore 4, 2) := dk_54 4 (dk_at dksX0_findMasses_3 19 rfl rfl)
theorem dX0_findMasses_91 : decode cX0_findMasses 91 = .ok (.iload 4, 2) := dk_21 4 (dk_at dksX0_findMasses_3 21 rfl rfl)
theorem dX0_findMasses_93 : decode cX0_findMasses 93 = .ok (.sipush 1600, 3) := dk_17 6 64 (dk_at dksX0_findMasses_4 0 rfl rfl)
theorem dX0_findMasses_96 : decode cX0_findMasses 96 = .ok (.if_icmp .gt 36, 3) := dk_163 0 36 (dk_at dksX0_findMasses_4 3 rfl rfl)
theorem dX0_findMasses_99 : decode cX0_findMasses 99 = .ok (.aload_n 0, 1) := dk_42 (dk_at dksX0_findMasses_4 6 rfl rfl)
theorem dX0_findMasses_100 : decode cX0_findMasses 100 = .ok (.getfield 155, 3) := dk_180 0 155 (dk_at dksX0_findMasses_4 7 rfl rfl)
theorem dX0_findMasses_103 : decode cX0_findMasses 103 = .ok (.iload 4, 2) := dk_21 4 (dk_at dksX0_findMasses_4 10 rfl rfl)
theorem dX0_findMasses_105 : decode cX0_findMasses 105 = .ok (.dup2, 1) := dk_92 (dk_at dksX0_findMasses_4 12 rfl rfl)
theorem dX0_findMasses_106 : decode cX0_findMasses 106 = .ok (.laload, 1) := dk_47 (dk_at dksX0_findMasses_4 13 rfl rfl)
theorem dX0_findMasses_107 : decode cX0_findMasses 107 = .ok (.aload_n 0, 1) := dk_42 (dk_at dksX0_findMasses_4 14 rfl rfl)
theorem dX0_findMasses_108 : decode cX0_findMasses 108 = .ok (.getfield 152, 3) := dk_180 0 152 (dk_at dksX0_findMasses_4 15 rfl rfl)
theorem dX0_findMasses_111 : decode cX0_findMasses 111 = .ok (.iload_n 3, 1) := dk_29 (dk_at dksX0_findMasses_4 18 rfl rfl)
theorem dX0_findMasses_112 : decode cX0_findMasses 112 = .ok (.iaload, 1) := dk_46 (dk_at dksX0_findMasses_4 19 rfl rfl)
theorem dX0_findMasses_113 : decode cX0_findMasses 113 = .ok (.i2l, 1) := dk_133 (dk_at dksX0_findMasses_4 20 rfl rfl)
theorem dX0_findMasses_114 : decode cX0_findMasses 114 = .ok (.lload_n 1, 1) := dk_31 (dk_at dksX0_findMasses_4 21 rfl rfl)
theorem dX0_findMasses_115 : decode cX0_findMasses 115 = .ok (.lmul, 1) := dk_105 (dk_at dksX0_findMasses_4 22 rfl rfl)
theorem dX0_findMasses_116 : decode cX0_findMasses 116 = .ok (.aload_n 0, 1) := dk_42 (dk_at dksX0_findMasses_4 23 rfl rfl)
theorem dX0_findMasses_117 : decode cX0_findMasses 117 = .ok (.getfield 158, 3) := dk_180 0 158 (dk_at dksX0_findMasses_5 0 rfl rfl)
theorem dX0_findMasses_120 : decode cX0_findMasses 120 = .ok (.iload 4, 2) := dk_21 4 (dk_at dksX0_findMasses_5 3 rfl rfl)
theorem dX0_findMasses_122 : decode cX0_findMasses 122 = .ok (.laload, 1) := dk_47 (dk_at dksX0_findMasses_5 5 rfl rfl)
theorem dX0_findMasses_123 : decode cX0_findMasses 123 = .ok (.lmul, 1) := dk_105 (dk_at dksX0_findMasses_5 6 rfl rfl)
theorem dX0_findMasses_124 : decode cX0_findMasses 124 = .ok (.ladd, 1) := dk_97 (dk_at dksX0_findMasses_5 7 rfl rfl)
theorem dX0_findMasses_125 : decode cX0_findMasses 125 = .ok (.lastore, 1) := dk_80 (dk_at dksX0_findMasses_5 8 rfl rfl)
theorem dX0_findMasses_126 : decode cX0_findMasses 126 = .ok (.iinc 4 1, 3) := dk_132 4 1 (dk_at dksX0_findMasses_5 9 rfl rfl)
theorem dX0_findMasses_129 : decode cX0_findMasses 129 = .ok (.goto (-38), 3) := dk_167 255 218 (dk_at dksX0_findMasses_5 12 rfl rfl)
theorem dX0_findMasses_132 : decode cX0_findMasses 132 = .ok (.iload_n 3, 1) := dk_29 (dk_at dksX0_findMasses_5 15 rfl rfl)
theorem dX0_findMasses_133 : decode cX0_findMasses 133 = .ok (.iconst 3, 1) := dk_6 (dk_at dksX0_findMasses_5 16 rfl rfl)
theorem dX0_findMasses_134 : decode cX0_findMasses 134 = .ok (.if_icmp .ne 7, 3) := dk_160 0 7 (dk_at dksX0_findMasses_5 17 rfl rfl)
theorem dX0_findMasses_137 : decode cX0_findMasses 137 = .ok (.lconst 1, 1) := dk_10 (dk_at dksX0_findMasses_5 20 rfl rfl)
theorem dX0_findMasses_138 : decode cX0_findMasses 138 = .ok (.goto 21, 3) := dk_167 0 21 (dk_at dksX0_findMasses_5 21 rfl rfl)
theorem dX0_findMasses_141 : decode cX0_findMasses 141 = .ok (.aload_n 0, 1) := dk_42 (dk_at dksX0_findMasses_6 0 rfl rfl)
theorem dX0_findMasses_142 : decode cX0_findMasses 142 = .ok (.getfield 519, 3) := dk_180 2 7 (dk_at dksX0_findMasses_6 1 rfl rfl)
theorem dX0_findMasses_145 : decode cX0_findMasses 145 = .ok (.ifCond .ne 7, 3) := dk_154 0 7 (dk_at dksX0_findMasses_6 4 rfl rfl)
theorem dX0_findMasses_148 : decode cX0_findMasses 148 = .ok (.lconst 0, 1) := dk_9 (dk_at dksX0_findMasses_6 7 rfl rfl)
theorem dX0_findMasses_149 : decode cX0_findMasses 149 = .ok (.goto 10, 3) := dk_167 0 10 (dk_at dksX0_findMasses_6 8 rfl rfl)
theorem dX0_findMasses_152 : decode cX0_findMasses 152 = .ok (.lload_n 1, 1) := dk_31 (dk_at dksX0_findMasses_6 11 rfl rfl)
theorem dX0_findMasses_153 : decode cX0_findMasses 153 = .ok (.aload_n 0, 1) := dk_42 (dk_at dksX0_findMasses_6 12 rfl rfl)
theorem dX0_findMasses_154 : decode cX0_findMasses 154 = .ok (.getfield 519, 3) := dk_180 2 7 (dk_at dksX0_findMasses_6 13 rfl rfl)
theorem dX0_findMasses_157 : decode cX0_findMasses 157 = .ok (.i2l, 1) := dk_133 (dk_at dksX0_findMasses_6 16 rfl rfl)
theorem dX0_findMasses_158 : decode cX0_findMasses 158 = .ok (.ldiv, 1) := dk_109 (dk_at dksX0_findMasses_6 17 rfl rfl)
theorem dX0_findMasses_159 : decode cX0_findMasses 159 = .ok (.lstore_n 1, 1) := dk_64 (dk_at dksX0_findMasses_6 18 rfl rfl)
theorem dX0_findMasses_160 : decode cX0_findMasses 160 = .ok (.iinc 3 1, 3) := dk_132 3 1 (dk_at dksX0_findMasses_6 19 rfl rfl)
theorem dX0_findMasses_163 : decode cX0_findMasses 163 = .ok (.goto (-88), 3) := dk_167 255 168 (dk_at dksX0_findMasses_7 0 rfl rfl)
theorem dX0_findMasses_166 : decode cX0_findMasses 166 = .ok (.return_, 1) := dk_177 (dk_at dksX0_findMasses_7 3 rfl rfl)
abbrev cX0_fold : ByteArray := prog_1_method_57_code
def yX0_fold : MethodName := ⟨RX0, "fold", "()V"⟩
def dkwX0_fold_5 : List UInt8 := [177]
abbrev dktX0_fold_5 : List UInt8 := dkwX0_fold_5 ++ []
def dkwX0_fold_4 : List UInt8 := [17, 6, 64, 163, 0, 21, 42, 180, 0, 158, 27, 42, 180, 0, 161, 27, 47, 80, 132, 1, 1, 167, 255, 234]
abbrev dktX0_fold_4 : List UInt8 := dkwX0_fold_4 ++ dktX0_fold_5
def dkwX0_fold_3 : List UInt8 := [180, 0, 149, 28, 46, 133, 105, 97, 80, 132, 2, 1, 167, 255, 221, 132, 1, 1, 167, 255, 192, 3, 60, 27]
abbrev dktX0_fold_3 : List UInt8 := dkwX0_fold_3 ++ dktX0_fold_4
def dkwX0_fold_2 : List UInt8 := [17, 1, 144, 163, 0, 34, 42, 180, 0, 161, 27, 28, 96, 92, 47, 42, 180, 0, 158, 27, 47, 42]
abbrev dktX0_fold_2 : List UInt8 := dkwX0_fold_2 ++ dktX0_fold_3
def dkwX0_fold_1 : List UInt8 := [27, 17, 4, 176, 163, 0, 63, 42, 180, 0, 158, 27, 47, 9, 148, 154, 0, 6, 167, 0, 43, 3, 61, 28]
abbrev dktX0_fold_1 : List UInt8 := dkwX0_fold_1 ++ dktX0_fold_2
def dkwX0_fold_0 : List UInt8 := [3, 60, 27, 17, 6, 64, 163, 0, 16, 42, 180, 0, 161, 27, 9, 80, 132, 1, 1, 167, 255, 239, 3, 60]
abbrev dktX0_fold_0 : List UInt8 := dkwX0_fold_0 ++ dktX0_fold_1
theorem dksX0_fold_0 : cX0_fold.data.toList.drop 0 = dktX0_fold_0 := by decide +kernel
theorem dksX0_fold_1 : cX0_fold.data.toList.drop 24 = dktX0_fold_1 := dk_seg dksX0_fold_0 24 rfl rfl
theorem dksX0_fold_2 : cX0_fold.data.toList.drop 48 = dktX0_fold_2 := dk_seg dksX0_fold_1 24 rfl rfl
theorem dksX0_fold_3 : cX0_fold.data.toList.drop 70 = dktX0_fold_3 := dk_seg dksX0_fold_2 22 rfl rfl
theorem dksX0_fold_4 : cX0_fold.data.toList.drop 94 = dktX0_fold_4 := dk_seg dksX0_fold_3 24 rfl rfl
theorem dksX0_fold_5 : cX0_fold.data.toList.drop 118 = dktX0_fold_5 := dk_seg dksX0_fold_4 24 rfl rfl
theorem dX0_fold_0 : decode cX0_fold 0 = .ok (.iconst 0, 1) := dk_3 (dk_at dksX0_fold_0 0 rfl rfl)
theorem dX0_fold_1 : decode cX0_fold 1 = .ok (.istore_n 1, 1) := dk_60 (dk_at dksX0_fold_0 1 rfl rfl)
theorem dX0_fold_2 : decode cX0_fold 2 = .ok (.iload_n 1, 1) := dk_27 (dk_at dksX0_fold_0 2 rfl rfl)
theorem dX0_fold_3 : decode cX0_fold 3 = .ok (.sipush 1600, 3) := dk_17 6 64 (dk_at dksX0_fold_0 3 rfl rfl)
theorem dX0_fold_6 : decode cX0_fold 6 = .ok (.if_icmp .gt 16, 3) := dk_163 0 16 (dk_at dksX0_fold_0 6 rfl rfl)
theorem dX0_fold_9 : decode cX0_fold 9 = .ok (.aload_n 0, 1) := dk_42 (dk_at dksX0_fold_0 9 rfl rfl)
theorem dX0_fold_10 : decode cX0_fold 10 = .ok (.getfield 161, 3) := dk_180 0 161 (dk_at dksX0_fold_0 10 rfl rfl)
theorem dX0_fold_13 : decode cX0_fold 13 = .ok (.iload_n 1, 1) := dk_27 (dk_at dksX0_fold_0 13 rfl rfl)
theorem dX0_fold_14 : decode cX0_fold 14 = .ok (.lconst 0, 1) := dk_9 (dk_at dksX0_fold_0 14 rfl rfl)
theorem dX0_fold_15 : decode cX0_fold 15 = .ok (.lastore, 1) := dk_80 (dk_at dksX0_fold_0 15 rfl rfl)
theorem dX0_fold_16 : decode cX0_fold 16 = .ok (.iinc 1 1, 3) := dk_132 1 1 (dk_at dksX0_fold_0 16 rfl rfl)
theorem dX0_fold_19 : decode cX0_fold 19 = .ok (.goto (-17), 3) := dk_167 255 239 (dk_at dksX0_fold_0 19 rfl rfl)
theorem dX0_fold_22 : decode cX0_fold 22 = .ok (.iconst 0, 1) := dk_3 (dk_at dksX0_fold_0 22 rfl rfl)
theorem dX0_fold_23 : decode cX0_fold 23 = .ok (.istore_n 1, 1) := dk_60 (dk_at dksX0_fold_0 23 rfl rfl)
theorem dX0_fold_24 : decode cX0_fold 24 = .ok (.iload_n 1, 1) := dk_27 (dk_at dksX0_fold_1 0 rfl rfl)
theorem dX0_fold_25 : decode cX0_fold 25 = .ok (.sipush 1200, 3) := dk_17 4 176 (dk_at dksX0_fold_1 1 rfl rfl)
theorem dX0_fold_28 : decode cX0_fold 28 = .ok (.if_icmp .gt 63, 3) := dk_163 0 63 (dk_at dksX0_fold_1 4 rfl rfl)
theorem dX0_fold_31 : decode cX0_fold 31 = .ok (.aload_n 0, 1) := dk_42 (dk_at dksX0_fold_1 7 rfl rfl)
theorem dX0_fold_32 : decode cX0_fold 32 = .ok (.getfield 158, 3) := dk_180 0 158 (dk_at dksX0_fold_1 8 rfl rfl)
theorem dX0_fold_35 : decode cX0_fold 35 = .ok (.iload_n 1, 1) := dk_27 (dk_at dksX0_fold_1 11 rfl rfl)
theorem dX0_fold_36 : decode cX0_fold 36 = .ok (.laload, 1) := dk_47 (dk_at dksX0_fold_1 12 rfl rfl)
theorem dX0_fold_37 : decode cX0_fold 37 = .ok (.lconst 0, 1) := dk_9 (dk_at dksX0_fold_1 13 rfl rfl)
theorem dX0_fold_38 : decode cX0_fold 38 = .ok (.lcmp, 1) := dk_148 (dk_at dksX0_fold_1 14 rfl rfl)
theorem dX0_fold_39 : decode cX0_fold 39 = .ok (.ifCond .ne 6, 3) := dk_154 0 6 (dk_at dksX0_fold_1 15 rfl rfl)
theorem dX0_fold_42 : decode cX0_fold 42 = .ok (.goto 43, 3) := dk_167 0 43 (dk_at dksX0_fold_1 18 rfl rfl)
theorem dX0_fold_45 : decode cX0_fold 45 = .ok (.iconst 0, 1) := dk_3 (dk_at dksX0_fold_1 21 rfl rfl)
theorem dX0_fold_46 : decode cX0_fold 46 = .ok (.istore_n 2, 1) := dk_61 (dk_at dksX0_fold_1 22 rfl rfl)
theorem dX0_fold_47 : decode cX0_fold 47 = .ok (.iload_n 2, 1) := dk_28 (dk_at dksX0_fold_1 23 rfl rfl)
theorem dX0_fold_48 : decode cX0_fold 48 = .ok (.sipush 400, 3) := dk_17 1 144 (dk_at dksX0_fold_2 0 rfl rfl)
theorem dX0_fold_51 : decode cX0_fold 51 = .ok (.if_icmp .gt 34, 3) := dk_163 0 34 (dk_at dksX0_fold_2 3 rfl rfl)
theorem dX0_fold_54 : decode cX0_fold 54 = .ok (.aload_n 0, 1) := dk_42 (dk_at dksX0_fold_2 6 rfl rfl)
theorem dX0_fold_55 : decode cX0_fold 55 = .ok (.getfield 161, 3) := dk_180 0 161 (dk_at dksX0_fold_2 7 rfl rfl)
theorem dX0_fold_58 : decode cX0_fold 58 = .ok (.iload_n 1, 1) := dk_27 (dk_at dksX0_fold_2 10 rfl rfl)
theorem dX0_fold_59 : decode cX0_fold 59 = .ok (.iload_n 2, 1) := dk_28 (dk_at dksX0_fold_2 11 rfl rfl)
theorem dX0_fold_60 : decode cX0_fold 60 = .ok (.iadd, 1) := dk_96 (dk_at dksX0_fold_2 12 rfl rfl)
theorem dX0_fold_61 : decode cX0_fold 61 = .ok (.dup2, 1) := dk_92 (dk_at dksX0_fold_2 13 rfl rfl)
theorem dX0_fold_62 : decode cX0_fold 62 = .ok (.laload, 1) := dk_47 (dk_at dksX0_fold_2 14 rfl rfl)
theorem dX0_fold_63 : decode cX0_fold 63 = .ok (.aload_n 0, 1) := dk_42 (dk_at dksX0_fold_2 15 rfl rfl)
theorem dX0_fold_64 : decode cX0_fold 64 = .ok (.getfield 158, 3) := dk_180 0 158 (dk_at dksX0_fold_2 16 rfl rfl)
theorem dX0_fold_67 : decode cX0_fold 67 = .ok (.iload_n 1, 1) := dk_27 (dk_at dksX0_fold_2 19 rfl rfl)
theorem dX0_fold_68 : decode cX0_fold 68 = .ok (.laload, 1) := dk_47 (dk_at dksX0_fold_2 20 rfl rfl)
theorem dX0_fold_69 : decode cX0_fold 69 = .ok (.aload_n 0, 1) := dk_42 (dk_at dksX0_fold_2 21 rfl rfl)
theorem dX0_fold_70 : decode cX0_fold 70 = .ok (.getfield 149, 3) := dk_180 0 149 (dk_at dksX0_fold_3 0 rfl rfl)
theorem dX0_fold_73 : decode cX0_fold 73 = .ok (.iload_n 2, 1) := dk_28 (dk_at dksX0_fold_3 3 rfl rfl)
theorem dX0_fold_74 : decode cX0_fold 74 = .ok (.iaload, 1) := dk_46 (dk_at dksX0_fold_3 4 rfl rfl)
theorem dX0_fold_75 : decode cX0_fold 75 = .ok (.i2l, 1) := dk_133 (dk_at dksX0_fold_3 5 rfl rfl)
theorem dX0_fold_76 : decode cX0_fold 76 = .ok (.lmul, 1) := dk_105 (dk_at dksX0_fold_3 6 rfl rfl)
theorem dX0_fold_77 : decode cX0_fold 77 = .ok (.ladd, 1) := dk_97 (dk_at dksX0_fold_3 7 rfl rfl)
theorem dX0_fold_78 : decode cX0_fold 78 = .ok (.lastore, 1) := dk_80 (dk_at dksX0_fold_3 8 rfl rfl)
theorem dX0_fold_79 : decode cX0_fold 79 = .ok (.iinc 2 1, 3) := dk_132 2 1 (dk_at dksX0_fold_3 9 rfl rfl)
theorem dX0_fold_82 : decode cX0_fold 82 = .ok (.goto (-35), 3) := dk_167 255 221 (dk_at dksX0_fold_3 12 rfl rfl)
theorem dX0_fold_85 : decode cX0_fold 85 = .ok (.iinc 1 1, 3) := dk_132 1 1 (dk_at dksX0_fold_3 15 rfl rfl)
theorem dX0_fold_88 : decode cX0_fold 88 = .ok (.goto (-64), 3) := dk_167 255 192 (dk_at dksX0_fold_3 18 rfl rfl)
theorem dX0_fold_91 : decode cX0_fold 91 = .ok (.iconst 0, 1) := dk_3 (dk_at dksX0_fold_3 21 rfl rfl)
theorem dX0_fold_92 : decode cX0_fold 92 = .ok (.istore_n 1, 1) := dk_60 (dk_at dksX0_fold_3 22 rfl rfl)
theorem dX0_fold_93 : decode cX0_fold 93 = .ok (.iload_n 1, 1) := dk_27 (dk_at dksX0_fold_3 23 rfl rfl)
theorem dX0_fold_94 : decode cX0_fold 94 = .ok (.sipush 1600, 3) := dk_17 6 64 (dk_at dksX0_fold_4 0 rfl rfl)
theorem dX0_fold_97 : decode cX0_fold 97 = .ok (.if_icmp .gt 21, 3) := dk_163 0 21 (dk_at dksX0_fold_4 3 rfl rfl)
theorem dX0_fold_100 : decode cX0_fold 100 = .ok (.aload_n 0, 1) := dk_42 (dk_at dksX0_fold_4 6 rfl rfl)
theorem dX0_fold_101 : decode cX0_fold 101 = .ok (.getfield 158, 3) := dk_180 0 158 (dk_at dksX0_fold_4 7 rfl rfl)
theorem dX0_fold_104 : decode cX0_fold 104 = .ok (.iload_n 1, 1) := dk_27 (dk_at dksX0_fold_4 10 rfl rfl)
theorem dX0_fold_105 : decode cX0_fold 105 = .ok (.aload_n 0, 1) := dk_42 (dk_at dksX0_fold_4 11 rfl rfl)
theorem dX0_fold_106 : decode cX0_fold 106 = .ok (.getfield 161, 3) := dk_180 0 161 (dk_at dksX0_fold_4 12 rfl rfl)
theorem dX0_fold_109 : decode cX0_fold 109 = .ok (.iload_n 1, 1) := dk_27 (dk_at dksX0_fold_4 15 rfl rfl)
theorem dX0_fold_110 : decode cX0_fold 110 = .ok (.laload, 1) := dk_47 (dk_at dksX0_fold_4 16 rfl rfl)
theorem dX0_fold_111 : decode cX0_fold 111 = .ok (.lastore, 1) := dk_80 (dk_at dksX0_fold_4 17 rfl rfl)
theorem dX0_fold_112 : decode cX0_fold 112 = .ok (.iinc 1 1, 3) := dk_132 1 1 (dk_at dksX0_fold_4 18 rfl rfl)
theorem dX0_fold_115 : decode cX0_fold 115 = .ok (.goto (-22), 3) := dk_167 255 234 (dk_at dksX0_fold_4 21 rfl rfl)
theorem dX0_fold_118 : decode cX0_fold 118 = .ok (.return_, 1) := dk_177 (dk_at dksX0_fold_5 0 rfl rfl)
abbrev cX0_quantile : ByteArray := prog_1_method_60_code
def yX0_quantile : MethodName := ⟨RX0, "quantile", "(II)I"⟩
def dkwX0_quantile_3 : List UInt8 := [21, 7, 47, 97, 55, 5, 167, 255, 228, 21, 7, 172]
abbrev dktX0_quantile_3 : List UInt8 := dkwX0_quantile_3 ++ []
def dkwX0_quantile_2 : List UInt8 := [54, 7, 28, 133, 22, 5, 105, 27, 133, 33, 105, 148, 156, 0, 21, 22, 5, 42, 180, 0, 155, 132, 7, 1]
abbrev dktX0_quantile_2 : List UInt8 := dkwX0_quantile_2 ++ dktX0_quantile_3
def dkwX0_quantile_1 : List UInt8 := [42, 2, 182, 2, 19, 66, 33, 9, 148, 154, 0, 6, 16, 253, 172, 42, 180, 0, 155, 3, 47, 55, 5, 3]
abbrev dktX0_quantile_1 : List UInt8 := dkwX0_quantile_1 ++ dktX0_quantile_2
def dkwX0_quantile_0 : List UInt8 := [28, 4, 161, 0, 19, 28, 17, 3, 232, 163, 0, 12, 27, 155, 0, 8, 27, 28, 164, 0, 6, 16, 254, 172]
abbrev dktX0_quantile_0 : List UInt8 := dkwX0_quantile_0 ++ dktX0_quantile_1
theorem dksX0_quantile_0 : cX0_quantile.data.toList.drop 0 = dktX0_quantile_0 := by decide +kernel
theorem dksX0_quantile_1 : cX0_quantile.data.toList.drop 24 = dktX0_quantile_1 := dk_seg dksX0_quantile_0 24 rfl rfl
theorem dksX0_quantile_2 : cX0_quantile.data.toList.drop 48 = dktX0_quantile_2 := dk_seg dksX0_quantile_1 24 rfl rfl
theorem dksX0_quantile_3 : cX0_quantile.data.toList.drop 72 = dktX0_quantile_3 := dk_seg dksX0_quantile_2 24 rfl rfl
theorem dX0_quantile_0 : decode cX0_quantile 0 = .ok (.iload_n 2, 1) := dk_28 (dk_at dksX0_quantile_0 0 rfl rfl)
theorem dX0_quantile_1 : decode cX0_quantile 1 = .ok (.iconst 1, 1) := dk_4 (dk_at dksX0_quantile_0 1 rfl rfl)
theorem dX0_quantile_2 : decode cX0_quantile 2 = .ok (.if_icmp .lt 19, 3) := dk_161 0 19 (dk_at dksX0_quantile_0 2 rfl rfl)
theorem dX0_quantile_5 : decode cX0_quantile 5 = .ok (.iload_n 2, 1) := dk_28 (dk_at dksX0_quantile_0 5 rfl rfl)
theorem dX0_quantile_6 : decode cX0_quantile 6 = .ok (.sipush 1000, 3) := dk_17 3 232 (dk_at dksX0_quantile_0 6 rfl rfl)
theorem dX0_quantile_9 : decode cX0_quantile 9 = .ok (.if_icmp .gt 12, 3) := dk_163 0 12 (dk_at dksX0_quantile_0 9 rfl rfl)
theorem dX0_quantile_12 : decode cX0_quantile 12 = .ok (.iload_n 1, 1) := dk_27 (dk_at dksX0_quantile_0 12 rfl rfl)
theorem dX0_quantile_13 : decode cX0_quantile 13 = .ok (.ifCond .lt 8, 3) := dk_155 0 8 (dk_at dksX0_quantile_0 13 rfl rfl)
theorem dX0_quantile_16 : decode cX0_quantile 16 = .ok (.iload_n 1, 1) := dk_27 (dk_at dksX0_quantile_0 16 rfl rfl)
theorem dX0_quantile_17 : decode cX0_quantile 17 = .ok (.iload_n 2, 1) := dk_28 (dk_at dksX0_quantile_0 17 rfl rfl)
theorem dX0_quantile_18 : decode cX0_quantile 18 = .ok (.if_icmp .le 6, 3) := dk_164 0 6 (dk_at dksX0_quantile_0 18 rfl rfl)
theorem dX0_quantile_21 : decode cX0_quantile 21 = .ok (.bipush (-2), 2) := dk_16 254 (dk_at dksX0_quantile_0 21 rfl rfl)
theorem dX0_quantile_23 : decode cX0_quantile 23 = .ok (.ireturn, 1) := dk_172 (dk_at dksX0_quantile_0 23 rfl rfl)
theorem dX0_quantile_24 : decode cX0_quantile 24 = .ok (.aload_n 0, 1) := dk_42 (dk_at dksX0_quantile_1 0 rfl rfl)
theorem dX0_quantile_25 : decode cX0_quantile 25 = .ok (.iconst (-1), 1) := dk_2 (dk_at dksX0_quantile_1 1 rfl rfl)
theorem dX0_quantile_26 : decode cX0_quantile 26 = .ok (.invokevirtual 531, 3) := dk_182 2 19 (dk_at dksX0_quantile_1 2 rfl rfl)
theorem dX0_quantile_29 : decode cX0_quantile 29 = .ok (.lstore_n 3, 1) := dk_66 (dk_at dksX0_quantile_1 5 rfl rfl)
theorem dX0_quantile_30 : decode cX0_quantile 30 = .ok (.lload_n 3, 1) := dk_33 (dk_at dksX0_quantile_1 6 rfl rfl)
theorem dX0_quantile_31 : decode cX0_quantile 31 = .ok (.lconst 0, 1) := dk_9 (dk_at dksX0_quantile_1 7 rfl rfl)
theorem dX0_quantile_32 : decode cX0_quantile 32 = .ok (.lcmp, 1) := dk_148 (dk_at dksX0_quantile_1 8 rfl rfl)
theorem dX0_quantile_33 : decode cX0_quantile 33 = .ok (.ifCond .ne 6, 3) := dk_154 0 6 (dk_at dksX0_quantile_1 9 rfl rfl)
theorem dX0_quantile_36 : decode cX0_quantile 36 = .ok (.bipush (-3), 2) := dk_16 253 (dk_at dksX0_quantile_1 12 rfl rfl)
theorem dX0_quantile_38 : decode cX0_quantile 38 = .ok (.ireturn, 1) := dk_172 (dk_at dksX0_quantile_1 14 rfl rfl)
theorem dX0_quantile_39 : decode cX0_quantile 39 = .ok (.aload_n 0, 1) := dk_42 (dk_at dksX0_quantile_1 15 rfl rfl)
theorem dX0_quantile_40 : decode cX0_quantile 40 = .ok (.getfield 155, 3) := dk_180 0 155 (dk_at dksX0_quantile_1 16 rfl rfl)
theorem dX0_quantile_43 : decode cX0_quantile 43 = .ok (.iconst 0, 1) := dk_3 (dk_at dksX0_quantile_1 19 rfl rfl)
theorem dX0_quantile_44 : decode cX0_quantile 44 = .ok (.laload, 1) := dk_47 (dk_at dksX0_quantile_1 20 rfl rfl)
theorem dX0_quantile_45 : decode cX0_quantile 45 = .ok (.lstore 5, 2) := dk_55 5 (dk_at dksX0_quantile_1 21 rfl rfl)
theorem dX0_quantile_47 : decode cX0_quantile 47 = .ok (.iconst 0, 1) := dk_3 (dk_at dksX0_quantile_1 23 rfl rfl)
theorem dX0_quantile_48 : decode cX0_quantile 48 = .ok (.istore 7, 2) := dk_54 7 (dk_at dksX0_quantile_2 0 rfl rfl)
theorem dX0_quantile_50 : decode cX0_quantile 50 = .ok (.iload_n 2, 1) := dk_28 (dk_at dksX0_quantile_2 2 rfl rfl)
theorem dX0_quantile_51 : decode cX0_quantile 51 = .ok (.i2l, 1) := dk_133 (dk_at dksX0_quantile_2 3 rfl rfl)
theorem dX0_quantile_52 : decode cX0_quantile 52 = .ok (.lload 5, 2) := dk_22 5 (dk_at dksX0_quantile_2 4 rfl rfl)
theorem dX0_quantile_54 : decode cX0_quantile 54 = .ok (.lmul, 1) := dk_105 (dk_at dksX0_quantile_2 6 rfl rfl)
theorem dX0_quantile_55 : decode cX0_quantile 55 = .ok (.iload_n 1, 1) := dk_27 (dk_at dksX0_quantile_2 7 rfl rfl)
theorem dX0_quantile_56 : decode cX0_quantile 56 = .ok (.i2l, 1) := dk_133 (dk_at dksX0_quantile_2 8 rfl rfl)
theorem dX0_quantile_57 : decode cX0_quantile 57 = .ok (.lload_n 3, 1) := dk_33 (dk_at dksX0_quantile_2 9 rfl rfl)
theorem dX0_quantile_58 : decode cX0_quantile 58 = .ok (.lmul, 1) := dk_105 (dk_at dksX0_quantile_2 10 rfl rfl)
theorem dX0_quantile_59 : decode cX0_quantile 59 = .ok (.lcmp, 1) := dk_148 (dk_at dksX0_quantile_2 11 rfl rfl)
theorem dX0_quantile_60 : decode cX0_quantile 60 = .ok (.ifCond .ge 21, 3) := dk_156 0 21 (dk_at dksX0_quantile_2 12 rfl rfl)
theorem dX0_quantile_63 : decode cX0_quantile 63 = .ok (.lload 5, 2) := dk_22 5 (dk_at dksX0_quantile_2 15 rfl rfl)
theorem dX0_quantile_65 : decode cX0_quantile 65 = .ok (.aload_n 0, 1) := dk_42 (dk_at dksX0_quantile_2 17 rfl rfl)
theorem dX0_quantile_66 : decode cX0_quantile 66 = .ok (.getfield 155, 3) := dk_180 0 155 (dk_at dksX0_quantile_2 18 rfl rfl)
theorem dX0_quantile_69 : decode cX0_quantile 69 = .ok (.iinc 7 1, 3) := dk_132 7 1 (dk_at dksX0_quantile_2 21 rfl rfl)
theorem dX0_quantile_72 : decode cX0_quantile 72 = .ok (.iload 7, 2) := dk_21 7 (dk_at dksX0_quantile_3 0 rfl rfl)
theorem dX0_quantile_74 : decode cX0_quantile 74 = .ok (.laload, 1) := dk_47 (dk_at dksX0_quantile_3 2 rfl rfl)
theorem dX0_quantile_75 : decode cX0_quantile 75 = .ok (.ladd, 1) := dk_97 (dk_at dksX0_quantile_3 3 rfl rfl)
theorem dX0_quantile_76 : decode cX0_quantile 76 = .ok (.lstore 5, 2) := dk_55 5 (dk_at dksX0_quantile_3 4 rfl rfl)
theorem dX0_quantile_78 : decode cX0_quantile 78 = .ok (.goto (-28), 3) := dk_167 255 228 (dk_at dksX0_quantile_3 6 rfl rfl)
theorem dX0_quantile_81 : decode cX0_quantile 81 = .ok (.iload 7, 2) := dk_21 7 (dk_at dksX0_quantile_3 9 rfl rfl)
theorem dX0_quantile_83 : decode cX0_quantile 83 = .ok (.ireturn, 1) := dk_172 (dk_at dksX0_quantile_3 11 rfl rfl)
abbrev cX0_beyond : ByteArray := prog_1_method_61_code
def yX0_beyond : MethodName := ⟨RX0, "beyond", "(I)J"⟩
def dkwX0_beyond_2 : List UInt8 := [97, 65, 132, 4, 1, 167, 255, 229, 32, 173]
abbrev dktX0_beyond_2 : List UInt8 := dkwX0_beyond_2 ++ []
def dkwX0_beyond_1 : List UInt8 := [54, 4, 21, 4, 17, 6, 64, 163, 0, 25, 32, 21, 4, 27, 100, 133, 42, 180, 0, 155, 21, 4, 47, 105]
abbrev dktX0_beyond_1 : List UInt8 := dkwX0_beyond_1 ++ dktX0_beyond_2
def dkwX0_beyond_0 : List UInt8 := [27, 155, 0, 10, 27, 17, 6, 64, 164, 0, 7, 20, 1, 228, 173, 42, 182, 2, 16, 9, 65, 27, 4, 96]
abbrev dktX0_beyond_0 : List UInt8 := dkwX0_beyond_0 ++ dktX0_beyond_1
theorem dksX0_beyond_0 : cX0_beyond.data.toList.drop 0 = dktX0_beyond_0 := by decide +kernel
theorem dksX0_beyond_1 : cX0_beyond.data.toList.drop 24 = dktX0_beyond_1 := dk_seg dksX0_beyond_0 24 rfl rfl
theorem dksX0_beyond_2 : cX0_beyond.data.toList.drop 48 = dktX0_beyond_2 := dk_seg dksX0_beyond_1 24 rfl rfl
theorem dX0_beyond_0 : decode cX0_beyond 0 = .ok (.iload_n 1, 1) := dk_27 (dk_at dksX0_beyond_0 0 rfl rfl)
theorem dX0_beyond_1 : decode cX0_beyond 1 = .ok (.ifCond .lt 10, 3) := dk_155 0 10 (dk_at dksX0_beyond_0 1 rfl rfl)
theorem dX0_beyond_4 : decode cX0_beyond 4 = .ok (.iload_n 1, 1) := dk_27 (dk_at dksX0_beyond_0 4 rfl rfl)
theorem dX0_beyond_5 : decode cX0_beyond 5 = .ok (.sipush 1600, 3) := dk_17 6 64 (dk_at dksX0_beyond_0 5 rfl rfl)
theorem dX0_beyond_8 : decode cX0_beyond 8 = .ok (.if_icmp .le 7, 3) := dk_164 0 7 (dk_at dksX0_beyond_0 8 rfl rfl)
theorem dX0_beyond_11 : decode cX0_beyond 11 = .ok (.ldc2_w 484, 3) := dk_20 1 228 (dk_at dksX0_beyond_0 11 rfl rfl)
theorem dX0_beyond_14 : decode cX0_beyond 14 = .ok (.lreturn, 1) := dk_173 (dk_at dksX0_beyond_0 14 rfl rfl)
theorem dX0_beyond_15 : decode cX0_beyond 15 = .ok (.aload_n 0, 1) := dk_42 (dk_at dksX0_beyond_0 15 rfl rfl)
theorem dX0_beyond_16 : decode cX0_beyond 16 = .ok (.invokevirtual 528, 3) := dk_182 2 16 (dk_at dksX0_beyond_0 16 rfl rfl)
theorem dX0_beyond_19 : decode cX0_beyond 19 = .ok (.lconst 0, 1) := dk_9 (dk_at dksX0_beyond_0 19 rfl rfl)
theorem dX0_beyond_20 : decode cX0_beyond 20 = .ok (.lstore_n 2, 1) := dk_65 (dk_at dksX0_beyond_0 20 rfl rfl)
theorem dX0_beyond_21 : decode cX0_beyond 21 = .ok (.iload_n 1, 1) := dk_27 (dk_at dksX0_beyond_0 21 rfl rfl)
theorem dX0_beyond_22 : decode cX0_beyond 22 = .ok (.iconst 1, 1) := dk_4 (dk_at dksX0_beyond_0 22 rfl rfl)
theorem dX0_beyond_23 : decode cX0_beyond 23 = .ok (.iadd, 1) := dk_96 (dk_at dksX0_beyond_0 23 rfl rfl)
theorem dX0_beyond_24 : decode cX0_beyond 24 = .ok (.istore 4, 2) := dk_54 4 (dk_at dksX0_beyond_1 0 rfl rfl)
theorem dX0_beyond_26 : decode cX0_beyond 26 = .ok (.iload 4, 2) := dk_21 4 (dk_at dksX0_beyond_1 2 rfl rfl)
theorem dX0_beyond_28 : decode cX0_beyond 28 = .ok (.sipush 1600, 3) := dk_17 6 64 (dk_at dksX0_beyond_1 4 rfl rfl)
theorem dX0_beyond_31 : decode cX0_beyond 31 = .ok (.if_icmp .gt 25, 3) := dk_163 0 25 (dk_at dksX0_beyond_1 7 rfl rfl)
theorem dX0_beyond_34 : decode cX0_beyond 34 = .ok (.lload_n 2, 1) := dk_32 (dk_at dksX0_beyond_1 10 rfl rfl)
theorem dX0_beyond_35 : decode cX0_beyond 35 = .ok (.iload 4, 2) := dk_21 4 (dk_at dksX0_beyond_1 11 rfl rfl)
theorem dX0_beyond_37 : decode cX0_beyond 37 = .ok (.iload_n 1, 1) := dk_27 (dk_at dksX0_beyond_1 13 rfl rfl)
theorem dX0_beyond_38 : decode cX0_beyond 38 = .ok (.isub, 1) := dk_100 (dk_at dksX0_beyond_1 14 rfl rfl)
theorem dX0_beyond_39 : decode cX0_beyond 39 = .ok (.i2l, 1) := dk_133 (dk_at dksX0_beyond_1 15 rfl rfl)
theorem dX0_beyond_40 : decode cX0_beyond 40 = .ok (.aload_n 0, 1) := dk_42 (dk_at dksX0_beyond_1 16 rfl rfl)
theorem dX0_beyond_41 : decode cX0_beyond 41 = .ok (.getfield 155, 3) := dk_180 0 155 (dk_at dksX0_beyond_1 17 rfl rfl)
theorem dX0_beyond_44 : decode cX0_beyond 44 = .ok (.iload 4, 2) := dk_21 4 (dk_at dksX0_beyond_1 20 rfl rfl)
theorem dX0_beyond_46 : decode cX0_beyond 46 = .ok (.laload, 1) := dk_47 (dk_at dksX0_beyond_1 22 rfl rfl)
theorem dX0_beyond_47 : decode cX0_beyond 47 = .ok (.lmul, 1) := dk_105 (dk_at dksX0_beyond_1 23 rfl rfl)
theorem dX0_beyond_48 : decode cX0_beyond 48 = .ok (.ladd, 1) := dk_97 (dk_at dksX0_beyond_2 0 rfl rfl)
theorem dX0_beyond_49 : decode cX0_beyond 49 = .ok (.lstore_n 2, 1) := dk_65 (dk_at dksX0_beyond_2 1 rfl rfl)
theorem dX0_beyond_50 : decode cX0_beyond 50 = .ok (.iinc 4 1, 3) := dk_132 4 1 (dk_at dksX0_beyond_2 2 rfl rfl)
theorem dX0_beyond_53 : decode cX0_beyond 53 = .ok (.goto (-27), 3) := dk_167 255 229 (dk_at dksX0_beyond_2 5 rfl rfl)
theorem dX0_beyond_56 : decode cX0_beyond 56 = .ok (.lload_n 2, 1) := dk_32 (dk_at dksX0_beyond_2 8 rfl rfl)
theorem dX0_beyond_57 : decode cX0_beyond 57 = .ok (.lreturn, 1) := dk_173 (dk_at dksX0_beyond_2 9 rfl rfl)
abbrev cX0_told : ByteArray := prog_1_method_62_code
def yX0_told : MethodName := ⟨RX0, "told", "(I)I"⟩
def dkwX0_told_4 : List UInt8 := [180, 1, 241, 172, 42, 180, 2, 7, 172, 42, 180, 0, 164, 172, 16, 254, 172]
abbrev dktX0_told_4 : List UInt8 := dkwX0_told_4 ++ []
def dkwX0_told_3 : List UInt8 := [185, 0, 201, 1, 0, 172, 42, 180, 0, 92, 185, 0, 201, 1, 0, 172, 42, 180, 1, 230, 172, 42]
abbrev dktX0_told_3 : List UInt8 := dkwX0_told_3 ++ dktX0_told_4
def dkwX0_told_2 : List UInt8 := [42, 180, 0, 82, 185, 0, 201, 1, 0, 172, 42, 180, 0, 86, 185, 0, 201, 1, 0, 172, 42, 180, 0, 89]
abbrev dktX0_told_2 : List UInt8 := dkwX0_told_2 ++ dktX0_told_3
def dkwX0_told_1 : List UInt8 := [170, 0, 0, 0, 0, 0, 107, 0, 0, 0, 0, 0, 0, 0, 7, 0, 0, 0, 47, 0, 0, 0, 57, 0, 0, 0, 67, 0, 0, 0, 77, 0, 0, 0, 87, 0, 0, 0, 92, 0, 0, 0, 97, 0, 0, 0, 102]
abbrev dktX0_told_1 : List UInt8 := dkwX0_told_1 ++ dktX0_told_2
def dkwX0_told_0 : List UInt8 := [27]
abbrev dktX0_told_0 : List UInt8 := dkwX0_told_0 ++ dktX0_told_1
theorem dksX0_told_0 : cX0_told.data.toList.drop 0 = dktX0_told_0 := by decide +kernel
theorem dksX0_told_1 : cX0_told.data.toList.drop 1 = dktX0_told_1 := dk_seg dksX0_told_0 1 rfl rfl
theorem dksX0_told_2 : cX0_told.data.toList.drop 48 = dktX0_told_2 := dk_seg dksX0_told_1 47 rfl rfl
theorem dksX0_told_3 : cX0_told.data.toList.drop 72 = dktX0_told_3 := dk_seg dksX0_told_2 24 rfl rfl
theorem dksX0_told_4 : cX0_told.data.toList.drop 94 = dktX0_told_4 := dk_seg dksX0_told_3 22 rfl rfl
theorem dX0_told_0 : decode cX0_told 0 = .ok (.iload_n 1, 1) := dk_27 (dk_at dksX0_told_0 0 rfl rfl)
theorem dX0_told_1 : decode cX0_told 1 = .ok (.tableswitch 107 0 7 #[47, 57, 67, 77, 87, 92, 97, 102], 47) := by decide +kernel
theorem dX0_told_48 : decode cX0_told 48 = .ok (.aload_n 0, 1) := dk_42 (dk_at dksX0_told_2 0 rfl rfl)
theorem dX0_told_49 : decode cX0_told 49 = .ok (.getfield 82, 3) := dk_180 0 82 (dk_at dksX0_told_2 1 rfl rfl)
theorem dX0_told_52 : decode cX0_told 52 = .ok (.invokeinterface 201 1, 5) := by decide +kernel
theorem dX0_told_57 : decode cX0_told 57 = .ok (.ireturn, 1) := dk_172 (dk_at dksX0_told_2 9 rfl rfl)
theorem dX0_told_58 : decode cX0_told 58 = .ok (.aload_n 0, 1) := dk_42 (dk_at dksX0_told_2 10 rfl rfl)
theorem dX0_told_59 : decode cX0_told 59 = .ok (.getfield 86, 3) := dk_180 0 86 (dk_at dksX0_told_2 11 rfl rfl)
theorem dX0_told_62 : decode cX0_told 62 = .ok (.invokeinterface 201 1, 5) := by decide +kernel
theorem dX0_told_67 : decode cX0_told 67 = .ok (.ireturn, 1) := dk_172 (dk_at dksX0_told_2 19 rfl rfl)
theorem dX0_told_68 : decode cX0_told 68 = .ok (.aload_n 0, 1) := dk_42 (dk_at dksX0_told_2 20 rfl rfl)
theorem dX0_told_69 : decode cX0_told 69 = .ok (.getfield 89, 3) := dk_180 0 89 (dk_at dksX0_told_2 21 rfl rfl)
theorem dX0_told_72 : decode cX0_told 72 = .ok (.invokeinterface 201 1, 5) := by decide +kernel
theorem dX0_told_77 : decode cX0_told 77 = .ok (.ireturn, 1) := dk_172 (dk_at dksX0_told_3 5 rfl rfl)
theorem dX0_told_78 : decode cX0_told 78 = .ok (.aload_n 0, 1) := dk_42 (dk_at dksX0_told_3 6 rfl rfl)
theorem dX0_told_79 : decode cX0_told 79 = .ok (.getfield 92, 3) := dk_180 0 92 (dk_at dksX0_told_3 7 rfl rfl)
theorem dX0_told_82 : decode cX0_told 82 = .ok (.invokeinterface 201 1, 5) := by decide +kernel
theorem dX0_told_87 : decode cX0_told 87 = .ok (.ireturn, 1) := dk_172 (dk_at dksX0_told_3 15 rfl rfl)
theorem dX0_told_88 : decode cX0_told 88 = .ok (.aload_n 0, 1) := dk_42 (dk_at dksX0_told_3 16 rfl rfl)
theorem dX0_told_89 : decode cX0_told 89 = .ok (.getfield 486, 3) := dk_180 1 230 (dk_at dksX0_told_3 17 rfl rfl)
theorem dX0_told_92 : decode cX0_told 92 = .ok (.ireturn, 1) := dk_172 (dk_at dksX0_told_3 20 rfl rfl)
theorem dX0_told_93 : decode cX0_told 93 = .ok (.aload_n 0, 1) := dk_42 (dk_at dksX0_told_3 21 rfl rfl)
theorem dX0_told_94 : decode cX0_told 94 = .ok (.getfield 497, 3) := dk_180 1 241 (dk_at dksX0_told_4 0 rfl rfl)
theorem dX0_told_97 : decode cX0_told 97 = .ok (.ireturn, 1) := dk_172 (dk_at dksX0_told_4 3 rfl rfl)
theorem dX0_told_98 : decode cX0_told 98 = .ok (.aload_n 0, 1) := dk_42 (dk_at dksX0_told_4 4 rfl rfl)
theorem dX0_told_99 : decode cX0_told 99 = .ok (.getfield 519, 3) := dk_180 2 7 (dk_at dksX0_told_4 5 rfl rfl)
theorem dX0_told_102 : decode cX0_told 102 = .ok (.ireturn, 1) := dk_172 (dk_at dksX0_told_4 8 rfl rfl)
theorem dX0_told_103 : decode cX0_told 103 = .ok (.aload_n 0, 1) := dk_42 (dk_at dksX0_told_4 9 rfl rfl)
theorem dX0_told_104 : decode cX0_told 104 = .ok (.getfield 164, 3) := dk_180 0 164 (dk_at dksX0_told_4 10 rfl rfl)
theorem dX0_told_107 : decode cX0_told 107 = .ok (.ireturn, 1) := dk_172 (dk_at dksX0_told_4 13 rfl rfl)
theorem dX0_told_108 : decode cX0_told 108 = .ok (.bipush (-2), 2) := dk_16 254 (dk_at dksX0_told_4 14 rfl rfl)
theorem dX0_told_110 : decode cX0_told 110 = .ok (.ireturn, 1) := dk_172 (dk_at dksX0_told_4 16 rfl rfl)
theorem q128 : (Jvm.Cond.initialized "CoverHouse") ∈ lw_all := lw_g (lw_at lw_m1 1 rfl) rfl
theorem q172 : (Jvm.Cond.instantiable "CoverHouse" (32 : Nat)) ∈ lw_all := lw_g (lw_at lw_m1 45 rfl) rfl
theorem q174 : (Jvm.Cond.instanceMethod ({ cls := "CoverHouse", name := "<init>", desc := "()V" } : Jvm.MethodName)) ∈ lw_all := lw_g (lw_at lw_m1 47 rfl) rfl
theorem q175 : (Jvm.Cond.code ({ cls := "CoverHouse", name := "<init>", desc := "()V" } : Jvm.MethodName) prog_1_method_2_code (1 : Nat) (Option.none : Option Jvm.ClassFile.FieldType)) ∈ lw_all := lw_g (lw_at lw_m1 48 rfl) rfl
theorem q176 : (Jvm.Cond.methodLink "CoverHouse" (7 : Nat) ({ cls := "java/lang/Object", name := "<init>", desc := "()V" } : Jvm.MethodName)) ∈ lw_all := lw_g (lw_at lw_m1 49 rfl) rfl
theorem q179 : (Jvm.Cond.constantLong "CoverHouse" (13 : Nat) (1717658484 : Int64)) ∈ lw_all := lw_g (lw_at lw_m1 52 rfl) rfl
theorem q180 : (Jvm.Cond.constantLong "CoverHouse" (15 : Nat) (7955827 : Int64)) ∈ lw_all := lw_g (lw_at lw_m1 53 rfl) rfl
theorem q181 : (Jvm.Cond.constantLong "CoverHouse" (17 : Nat) (7302757 : Int64)) ∈ lw_all := lw_g (lw_at lw_m1 54 rfl) rfl
theorem q182 : (Jvm.Cond.constantLong "CoverHouse" (19 : Nat) (1718775661 : Int64)) ∈ lw_all := lw_g (lw_at lw_m1 55 rfl) rfl
theorem q183 : (Jvm.Cond.constantLong "CoverHouse" (21 : Nat) (29807 : Int64)) ∈ lw_all := lw_g (lw_at lw_m1 56 rfl) rfl
theorem q184 : (Jvm.Cond.constantLong "CoverHouse" (23 : Nat) (1835360622 : Int64)) ∈ lw_all := lw_g (lw_at lw_m1 57 rfl) rfl
theorem q185 : (Jvm.Cond.constantLong "CoverHouse" (25 : Nat) (427071792498 : Int64)) ∈ lw_all := lw_g (lw_at lw_m1 58 rfl) rfl
theorem q186 : (Jvm.Cond.constantLong "CoverHouse" (27 : Nat) (465557354085 : Int64)) ∈ lw_all := lw_g (lw_at lw_m1 59 rfl) rfl
theorem q187 : (Jvm.Cond.constantLong "CoverHouse" (29 : Nat) (1650549611 : Int64)) ∈ lw_all := lw_g (lw_at lw_m1 60 rfl) rfl
theorem q188 : (Jvm.Cond.constantLong "CoverHouse" (31 : Nat) (439855772532 : Int64)) ∈ lw_all := lw_g (lw_at lw_m1 61 rfl) rfl
theorem q189 : (Jvm.Cond.constantLong "CoverHouse" (33 : Nat) (495672455781 : Int64)) ∈ lw_all := lw_g (lw_at lw_m1 62 rfl) rfl
theorem q190 : (Jvm.Cond.constantLong "CoverHouse" (35 : Nat) (1836020596 : Int64)) ∈ lw_all := lw_g (lw_at lw_m1 63 rfl) rfl
theorem q191 : (Jvm.Cond.constantLong "CoverHouse" (37 : Nat) (435778055796 : Int64)) ∈ lw_all := lw_g (lw_at lw_m1 64 rfl) rfl
theorem q192 : (Jvm.Cond.constantLong "CoverHouse" (39 : Nat) (2036687218 : Int64)) ∈ lw_all := lw_g (lw_at lw_m1 65 rfl) rfl
theorem q193 : (Jvm.Cond.constantLong "CoverHouse" (41 : Nat) (6384748 : Int64)) ∈ lw_all := lw_g (lw_at lw_m1 66 rfl) rfl
theorem q194 : (Jvm.Cond.constantLong "CoverHouse" (43 : Nat) (1918989413 : Int64)) ∈ lw_all := lw_g (lw_at lw_m1 67 rfl) rfl
theorem q195 : (Jvm.Cond.constantLong "CoverHouse" (45 : Nat) (499984983411 : Int64)) ∈ lw_all := lw_g (lw_at lw_m1 68 rfl) rfl
theorem q196 : (Jvm.Cond.constantLong "CoverHouse" (47 : Nat) (1886156147 : Int64)) ∈ lw_all := lw_g (lw_at lw_m1 69 rfl) rfl
theorem q197 : (Jvm.Cond.constantLong "CoverHouse" (49 : Nat) (491496238692 : Int64)) ∈ lw_all := lw_g (lw_at lw_m1 70 rfl) rfl
theorem q198 : (Jvm.Cond.constantLong "CoverHouse" (51 : Nat) (465557353332 : Int64)) ∈ lw_all := lw_g (lw_at lw_m1 71 rfl) rfl
theorem q199 : (Jvm.Cond.constantLong "CoverHouse" (53 : Nat) (26982 : Int64)) ∈ lw_all := lw_g (lw_at lw_m1 72 rfl) rfl
theorem q200 : (Jvm.Cond.constantLong "CoverHouse" (55 : Nat) (28530 : Int64)) ∈ lw_all := lw_g (lw_at lw_m1 73 rfl) rfl
theorem q201 : (Jvm.Cond.constantLong "CoverHouse" (57 : Nat) (6385252 : Int64)) ∈ lw_all := lw_g (lw_at lw_m1 74 rfl) rfl
theorem q202 : (Jvm.Cond.constantLong "CoverHouse" (59 : Nat) (7237492 : Int64)) ∈ lw_all := lw_g (lw_at lw_m1 75 rfl) rfl
theorem q203 : (Jvm.Cond.constantLong "CoverHouse" (61 : Nat) (126943972911973 : Int64)) ∈ lw_all := lw_g (lw_at lw_m1 76 rfl) rfl
theorem q204 : (Jvm.Cond.constantLong "CoverHouse" (63 : Nat) (29676314707714404 : Int64)) ∈ lw_all := lw_g (lw_at lw_m1 77 rfl) rfl
theorem q205 : (Jvm.Cond.constantLong "CoverHouse" (65 : Nat) (107118487239027 : Int64)) ∈ lw_all := lw_g (lw_at lw_m1 78 rfl) rfl
theorem q206 : (Jvm.Cond.constantLong "CoverHouse" (67 : Nat) (474148660594 : Int64)) ∈ lw_all := lw_g (lw_at lw_m1 79 rfl) rfl
theorem q207 : (Jvm.Cond.constantLong "CoverHouse" (69 : Nat) (7168377 : Int64)) ∈ lw_all := lw_g (lw_at lw_m1 80 rfl) rfl
theorem q208 : (Jvm.Cond.classLink "CoverHouse" (79 : Nat) "java/util/ArrayList") ∈ lw_all := lw_g (lw_at lw_m1 81 rfl) rfl
theorem q210 : (Jvm.Cond.methodLink "CoverHouse" (81 : Nat) ({ cls := "java/util/ArrayList", name := "<init>", desc := "()V" } : Jvm.MethodName)) ∈ lw_all := lw_g (lw_at lw_m1 83 rfl) rfl
theorem q236 : (Jvm.Cond.classLink "CoverHouse" (105 : Nat) "CoverHouse$Full") ∈ lw_all := lw_g (lw_at lw_m1 109 rfl) rfl
theorem q238 : (Jvm.Cond.methodLinkNest "CoverHouse" (107 : Nat) ({ cls := "CoverHouse$Full", name := "<init>", desc := "()V" } : Jvm.MethodName) "CoverHouse") ∈ lw_tbl := lw_at lw_m1 111 rfl
theorem q257 : (Jvm.Cond.classLink "CoverHouse" (112 : Nat) "CoverHouse$Ways") ∈ lw_all := lw_g (lw_at lw_m1 130 rfl) rfl
theorem q259 : (Jvm.Cond.methodLinkNest "CoverHouse" (114 : Nat) ({ cls := "CoverHouse$Ways", name := "<init>", desc := "(LCoverHouse;)V" } : Jvm.MethodName) "CoverHouse") ∈ lw_tbl := lw_at lw_m1 132 rfl
theorem q264 : (Jvm.Cond.fieldLinkNest "CoverHouse" (373 : Nat) "CoverHouse$Ways" "of" "LCoverHouse$Wording;" "CoverHouse") ∈ lw_tbl := lw_at lw_m1 137 rfl
theorem q266 : (Jvm.Cond.fieldLinkNest "CoverHouse" (376 : Nat) "CoverHouse$Ways" "cells" "[I" "CoverHouse") ∈ lw_tbl := lw_at lw_m1 139 rfl
theorem q268 : (Jvm.Cond.fieldLinkNest "CoverHouse" (362 : Nat) "CoverHouse$Ways" "known" "I" "CoverHouse") ∈ lw_tbl := lw_at lw_m1 141 rfl
theorem q270 : (Jvm.Cond.fieldLinkNest "CoverHouse" (378 : Nat) "CoverHouse$Ways" "units" "[I" "CoverHouse") ∈ lw_tbl := lw_at lw_m1 143 rfl
theorem q272 : (Jvm.Cond.fieldLinkNest "CoverHouse" (388 : Nat) "CoverHouse$Ways" "counts" "[I" "CoverHouse") ∈ lw_tbl := lw_at lw_m1 145 rfl
theorem q290 : (Jvm.Cond.classLink "CoverHouse" (121 : Nat) "CoverHouse$Joint") ∈ lw_all := lw_g (lw_at lw_m1 163 rfl) rfl
theorem q292 : (Jvm.Cond.methodLink "CoverHouse" (123 : Nat) ({ cls := "CoverHouse$Joint", name := "<init>", desc := "(LCoverHouse;)V" } : Jvm.MethodName)) ∈ lw_all := lw_g (lw_at lw_m1 165 rfl) rfl
theorem q311 : (Jvm.Cond.fieldLinkNest "CoverHouse" (279 : Nat) "CoverHouse$Starts" "size" "I" "CoverHouse") ∈ lw_tbl := lw_at lw_m1 184 rfl
theorem q358 : (Jvm.Cond.selects "CoverHouse" ({ cls := "java/lang/Object", name := "getClass", desc := "()Ljava/lang/Class;" } : Jvm.MethodName) ({ cls := "java/lang/Object", name := "getClass", desc := "()Ljava/lang/Class;" } : Jvm.MethodName)) ∈ lw_all := lw_g (lw_at lw_m1 231 rfl) rfl
theorem q403 : (Jvm.Cond.fieldLinkNest "CoverHouse" (175 : Nat) "CoverHouse$Joint" "starts" "Ljava/util/List;" "CoverHouse") ∈ lw_tbl := lw_at lw_m2 36 rfl
theorem q407 : (Jvm.Cond.fieldLinkNest "CoverHouse" (302 : Nat) "CoverHouse$Joint" "apart" "[I" "CoverHouse") ∈ lw_tbl := lw_at lw_m2 40 rfl
theorem q409 : (Jvm.Cond.fieldLinkNest "CoverHouse" (295 : Nat) "CoverHouse$Joint" "isApart" "[Z" "CoverHouse") ∈ lw_tbl := lw_at lw_m2 42 rfl
theorem q411 : (Jvm.Cond.fieldLinkNest "CoverHouse" (299 : Nat) "CoverHouse$Joint" "apartFacts" "I" "CoverHouse") ∈ lw_tbl := lw_at lw_m2 44 rfl
theorem q413 : (Jvm.Cond.fieldLinkNest "CoverHouse" (322 : Nat) "CoverHouse$Joint" "shown" "[I" "CoverHouse") ∈ lw_tbl := lw_at lw_m2 46 rfl
theorem q415 : (Jvm.Cond.fieldLinkNest "CoverHouse" (315 : Nat) "CoverHouse$Joint" "isShown" "Z" "CoverHouse") ∈ lw_tbl := lw_at lw_m2 48 rfl
theorem q417 : (Jvm.Cond.fieldLinkNest "CoverHouse" (319 : Nat) "CoverHouse$Joint" "shownFacts" "I" "CoverHouse") ∈ lw_tbl := lw_at lw_m2 50 rfl
theorem q440 : (Jvm.Cond.fieldLink "CoverHouse" (1 : Nat) "CoverHouse" "words" "[J") ∈ lw_all := lw_g (lw_at lw_m2 73 rfl) rfl
theorem q442 : (Jvm.Cond.fieldLink "CoverHouse" (71 : Nat) "CoverHouse" "text" "[B") ∈ lw_all := lw_g (lw_at lw_m2 75 rfl) rfl
theorem q444 : (Jvm.Cond.fieldLink "CoverHouse" (164 : Nat) "CoverHouse" "textSize" "I") ∈ lw_all := lw_g (lw_at lw_m2 77 rfl) rfl
theorem q445 : (Jvm.Cond.fieldLink "CoverHouse" (75 : Nat) "CoverHouse" "faultPlace" "I") ∈ lw_all := lw_g (lw_at lw_m2 78 rfl) rfl
theorem q446 : (Jvm.Cond.fieldLink "CoverHouse" (308 : Nat) "CoverHouse" "law" "LCoverHouse$Cond;") ∈ lw_all := lw_g (lw_at lw_m2 79 rfl) rfl
theorem q448 : (Jvm.Cond.fieldLink "CoverHouse" (82 : Nat) "CoverHouse" "wordings" "Ljava/util/List;") ∈ lw_all := lw_g (lw_at lw_m2 81 rfl) rfl
theorem q449 : (Jvm.Cond.fieldLink "CoverHouse" (86 : Nat) "CoverHouse" "events" "Ljava/util/List;") ∈ lw_all := lw_g (lw_at lw_m2 82 rfl) rfl
theorem q450 : (Jvm.Cond.fieldLink "CoverHouse" (89 : Nat) "CoverHouse" "policies" "Ljava/util/List;") ∈ lw_all := lw_g (lw_at lw_m2 83 rfl) rfl
theorem q451 : (Jvm.Cond.fieldLink "CoverHouse" (92 : Nat) "CoverHouse" "claims" "Ljava/util/List;") ∈ lw_all := lw_g (lw_at lw_m2 84 rfl) rfl
theorem q452 : (Jvm.Cond.fieldLink "CoverHouse" (95 : Nat) "CoverHouse" "treatyKinds" "[I") ∈ lw_all := lw_g (lw_at lw_m2 85 rfl) rfl
theorem q453 : (Jvm.Cond.fieldLink "CoverHouse" (99 : Nat) "CoverHouse" "treatyAs" "[I") ∈ lw_all := lw_g (lw_at lw_m2 86 rfl) rfl
theorem q454 : (Jvm.Cond.fieldLink "CoverHouse" (102 : Nat) "CoverHouse" "treatyBs" "[I") ∈ lw_all := lw_g (lw_at lw_m2 87 rfl) rfl
theorem q455 : (Jvm.Cond.fieldLink "CoverHouse" (486 : Nat) "CoverHouse" "treaties" "I") ∈ lw_all := lw_g (lw_at lw_m2 88 rfl) rfl
theorem q456 : (Jvm.Cond.fieldLink "CoverHouse" (108 : Nat) "CoverHouse" "full" "LCoverHouse$Full;") ∈ lw_all := lw_g (lw_at lw_m2 89 rfl) rfl
theorem q459 : (Jvm.Cond.fieldLink "CoverHouse" (117 : Nat) "CoverHouse" "ways" "LCoverHouse$Ways;") ∈ lw_all := lw_g (lw_at lw_m2 92 rfl) rfl
theorem q460 : (Jvm.Cond.fieldLink "CoverHouse" (124 : Nat) "CoverHouse" "joint" "LCoverHouse$Joint;") ∈ lw_all := lw_g (lw_at lw_m2 93 rfl) rfl
theorem q461 : (Jvm.Cond.fieldLink "CoverHouse" (128 : Nat) "CoverHouse" "pays" "[I") ∈ lw_all := lw_g (lw_at lw_m2 94 rfl) rfl
theorem q462 : (Jvm.Cond.fieldLink "CoverHouse" (131 : Nat) "CoverHouse" "order" "[I") ∈ lw_all := lw_g (lw_at lw_m2 95 rfl) rfl
theorem q463 : (Jvm.Cond.fieldLink "CoverHouse" (134 : Nat) "CoverHouse" "bookClaims" "[I") ∈ lw_all := lw_g (lw_at lw_m2 96 rfl) rfl
theorem q464 : (Jvm.Cond.fieldLink "CoverHouse" (137 : Nat) "CoverHouse" "bookAccounts" "[I") ∈ lw_all := lw_g (lw_at lw_m2 97 rfl) rfl
theorem q465 : (Jvm.Cond.fieldLink "CoverHouse" (140 : Nat) "CoverHouse" "bookAmounts" "[I") ∈ lw_all := lw_g (lw_at lw_m2 98 rfl) rfl
theorem q466 : (Jvm.Cond.fieldLink "CoverHouse" (143 : Nat) "CoverHouse" "bookDays" "[I") ∈ lw_all := lw_g (lw_at lw_m2 99 rfl) rfl
theorem q467 : (Jvm.Cond.fieldLink "CoverHouse" (497 : Nat) "CoverHouse" "bookSize" "I") ∈ lw_all := lw_g (lw_at lw_m2 100 rfl) rfl
theorem q468 : (Jvm.Cond.fieldLink "CoverHouse" (500 : Nat) "CoverHouse" "closed" "I") ∈ lw_all := lw_g (lw_at lw_m2 101 rfl) rfl
theorem q469 : (Jvm.Cond.fieldLink "CoverHouse" (146 : Nat) "CoverHouse" "grid" "[J") ∈ lw_all := lw_g (lw_at lw_m2 102 rfl) rfl
theorem q470 : (Jvm.Cond.fieldLink "CoverHouse" (149 : Nat) "CoverHouse" "sizes" "[I") ∈ lw_all := lw_g (lw_at lw_m2 103 rfl) rfl
theorem q471 : (Jvm.Cond.fieldLink "CoverHouse" (519 : Nat) "CoverHouse" "sizeSum" "I") ∈ lw_all := lw_g (lw_at lw_m2 104 rfl) rfl
theorem q472 : (Jvm.Cond.fieldLink "CoverHouse" (152 : Nat) "CoverHouse" "counts" "[I") ∈ lw_all := lw_g (lw_at lw_m2 105 rfl) rfl
theorem q473 : (Jvm.Cond.fieldLink "CoverHouse" (155 : Nat) "CoverHouse" "masses" "[J") ∈ lw_all := lw_g (lw_at lw_m2 106 rfl) rfl
theorem q474 : (Jvm.Cond.fieldLink "CoverHouse" (158 : Nat) "CoverHouse" "sums" "[J") ∈ lw_all := lw_g (lw_at lw_m2 107 rfl) rfl
theorem q475 : (Jvm.Cond.fieldLink "CoverHouse" (161 : Nat) "CoverHouse" "next" "[J") ∈ lw_all := lw_g (lw_at lw_m2 108 rfl) rfl
theorem q476 : (Jvm.Cond.fieldLink "CoverHouse" (522 : Nat) "CoverHouse" "areMasses" "Z") ∈ lw_all := lw_g (lw_at lw_m2 109 rfl) rfl
theorem q477 : (Jvm.Cond.laysFinal "CoverHouse" "CoverHouse" "words" "[J") ∈ lw_all := lw_g (lw_at lw_m2 110 rfl) rfl
theorem q478 : (Jvm.Cond.soleField "CoverHouse" "words") ∈ lw_all := lw_g (lw_at lw_m2 111 rfl) rfl
theorem q479 : (Jvm.Cond.laysFinal "CoverHouse" "CoverHouse" "text" "[B") ∈ lw_all := lw_g (lw_at lw_m2 112 rfl) rfl
theorem q480 : (Jvm.Cond.soleField "CoverHouse" "text") ∈ lw_all := lw_g (lw_at lw_m2 113 rfl) rfl
theorem q481 : (Jvm.Cond.lays "CoverHouse" "CoverHouse" "textSize" "I") ∈ lw_all := lw_g (lw_at lw_m2 114 rfl) rfl
theorem q482 : (Jvm.Cond.soleField "CoverHouse" "textSize") ∈ lw_all := lw_g (lw_at lw_m2 115 rfl) rfl
theorem q483 : (Jvm.Cond.lays "CoverHouse" "CoverHouse" "faultPlace" "I") ∈ lw_all := lw_g (lw_at lw_m2 116 rfl) rfl
theorem q484 : (Jvm.Cond.soleField "CoverHouse" "faultPlace") ∈ lw_all := lw_g (lw_at lw_m2 117 rfl) rfl
theorem q485 : (Jvm.Cond.lays "CoverHouse" "CoverHouse" "law" "LCoverHouse$Cond;") ∈ lw_all := lw_g (lw_at lw_m2 118 rfl) rfl
theorem q486 : (Jvm.Cond.soleField "CoverHouse" "law") ∈ lw_all := lw_g (lw_at lw_m2 119 rfl) rfl
theorem q487 : (Jvm.Cond.laysFinal "CoverHouse" "CoverHouse" "wordings" "Ljava/util/List;") ∈ lw_all := lw_g (lw_at lw_m2 120 rfl) rfl
theorem q488 : (Jvm.Cond.soleField "CoverHouse" "wordings") ∈ lw_all := lw_g (lw_at lw_m2 121 rfl) rfl
theorem q489 : (Jvm.Cond.laysFinal "CoverHouse" "CoverHouse" "events" "Ljava/util/List;") ∈ lw_all := lw_g (lw_at lw_m2 122 rfl) rfl
theorem q490 : (Jvm.Cond.soleField "CoverHouse" "events") ∈ lw_all := lw_g (lw_at lw_m2 123 rfl) rfl
theorem q491 : (Jvm.Cond.laysFinal "CoverHouse" "CoverHouse" "policies" "Ljava/util/List;") ∈ lw_all := lw_g (lw_at lw_m2 124 rfl) rfl
theorem q492 : (Jvm.Cond.soleField "CoverHouse" "policies") ∈ lw_all := lw_g (lw_at lw_m2 125 rfl) rfl
theorem q493 : (Jvm.Cond.laysFinal "CoverHouse" "CoverHouse" "claims" "Ljava/util/List;") ∈ lw_all := lw_g (lw_at lw_m2 126 rfl) rfl
theorem q494 : (Jvm.Cond.soleField "CoverHouse" "claims") ∈ lw_all := lw_g (lw_at lw_m2 127 rfl) rfl
theorem q495 : (Jvm.Cond.laysFinal "CoverHouse" "CoverHouse" "treatyKinds" "[I") ∈ lw_all := lw_g (lw_at lw_m2 128 rfl) rfl
theorem q496 : (Jvm.Cond.soleField "CoverHouse" "treatyKinds") ∈ lw_all := lw_g (lw_at lw_m2 129 rfl) rfl
theorem q497 : (Jvm.Cond.laysFinal "CoverHouse" "CoverHouse" "treatyAs" "[I") ∈ lw_all := lw_g (lw_at lw_m2 130 rfl) rfl
theorem q498 : (Jvm.Cond.soleField "CoverHouse" "treatyAs") ∈ lw_all := lw_g (lw_at lw_m2 131 rfl) rfl
theorem q499 : (Jvm.Cond.laysFinal "CoverHouse" "CoverHouse" "treatyBs" "[I") ∈ lw_all := lw_g (lw_at lw_m2 132 rfl) rfl
theorem q500 : (Jvm.Cond.soleField "CoverHouse" "treatyBs") ∈ lw_all := lw_g (lw_at lw_m2 133 rfl) rfl
theorem q501 : (Jvm.Cond.lays "CoverHouse" "CoverHouse" "treaties" "I") ∈ lw_all := lw_g (lw_at lw_m2 134 rfl) rfl
theorem q502 : (Jvm.Cond.soleField "CoverHouse" "treaties") ∈ lw_all := lw_g (lw_at lw_m2 135 rfl) rfl
theorem q503 : (Jvm.Cond.laysFinal "CoverHouse" "CoverHouse" "full" "LCoverHouse$Full;") ∈ lw_all := lw_g (lw_at lw_m2 136 rfl) rfl
theorem q504 : (Jvm.Cond.soleField "CoverHouse" "full") ∈ lw_all := lw_g (lw_at lw_m2 137 rfl) rfl
theorem q505 : (Jvm.Cond.laysFinal "CoverHouse" "CoverHouse" "ways" "LCoverHouse$Ways;") ∈ lw_all := lw_g (lw_at lw_m2 138 rfl) rfl
theorem q506 : (Jvm.Cond.soleField "CoverHouse" "ways") ∈ lw_all := lw_g (lw_at lw_m2 139 rfl) rfl
theorem q507 : (Jvm.Cond.laysFinal "CoverHouse" "CoverHouse" "joint" "LCoverHouse$Joint;") ∈ lw_all := lw_g (lw_at lw_m2 140 rfl) rfl
theorem q508 : (Jvm.Cond.soleField "CoverHouse" "joint") ∈ lw_all := lw_g (lw_at lw_m2 141 rfl) rfl
theorem q509 : (Jvm.Cond.laysFinal "CoverHouse" "CoverHouse" "pays" "[I") ∈ lw_all := lw_g (lw_at lw_m2 142 rfl) rfl
theorem q510 : (Jvm.Cond.soleField "CoverHouse" "pays") ∈ lw_all := lw_g (lw_at lw_m2 143 rfl) rfl
theorem q511 : (Jvm.Cond.laysFinal "CoverHouse" "CoverHouse" "order" "[I") ∈ lw_all := lw_g (lw_at lw_m2 144 rfl) rfl
theorem q512 : (Jvm.Cond.soleField "CoverHouse" "order") ∈ lw_all := lw_g (lw_at lw_m2 145 rfl) rfl
theorem q513 : (Jvm.Cond.laysFinal "CoverHouse" "CoverHouse" "bookClaims" "[I") ∈ lw_all := lw_g (lw_at lw_m2 146 rfl) rfl
theorem q514 : (Jvm.Cond.soleField "CoverHouse" "bookClaims") ∈ lw_all := lw_g (lw_at lw_m2 147 rfl) rfl
theorem q515 : (Jvm.Cond.laysFinal "CoverHouse" "CoverHouse" "bookAccounts" "[I") ∈ lw_all := lw_g (lw_at lw_m2 148 rfl) rfl
theorem q516 : (Jvm.Cond.soleField "CoverHouse" "bookAccounts") ∈ lw_all := lw_g (lw_at lw_m2 149 rfl) rfl
theorem q517 : (Jvm.Cond.laysFinal "CoverHouse" "CoverHouse" "bookAmounts" "[I") ∈ lw_all := lw_g (lw_at lw_m2 150 rfl) rfl
theorem q518 : (Jvm.Cond.soleField "CoverHouse" "bookAmounts") ∈ lw_all := lw_g (lw_at lw_m2 151 rfl) rfl
theorem q519 : (Jvm.Cond.laysFinal "CoverHouse" "CoverHouse" "bookDays" "[I") ∈ lw_all := lw_g (lw_at lw_m2 152 rfl) rfl
theorem q520 : (Jvm.Cond.soleField "CoverHouse" "bookDays") ∈ lw_all := lw_g (lw_at lw_m2 153 rfl) rfl
theorem q521 : (Jvm.Cond.lays "CoverHouse" "CoverHouse" "bookSize" "I") ∈ lw_all := lw_g (lw_at lw_m2 154 rfl) rfl
theorem q522 : (Jvm.Cond.soleField "CoverHouse" "bookSize") ∈ lw_all := lw_g (lw_at lw_m2 155 rfl) rfl
theorem q523 : (Jvm.Cond.lays "CoverHouse" "CoverHouse" "closed" "I") ∈ lw_all := lw_g (lw_at lw_m2 156 rfl) rfl
theorem q524 : (Jvm.Cond.soleField "CoverHouse" "closed") ∈ lw_all := lw_g (lw_at lw_m2 157 rfl) rfl
theorem q525 : (Jvm.Cond.laysFinal "CoverHouse" "CoverHouse" "grid" "[J") ∈ lw_all := lw_g (lw_at lw_m2 158 rfl) rfl
theorem q526 : (Jvm.Cond.soleField "CoverHouse" "grid") ∈ lw_all := lw_g (lw_at lw_m2 159 rfl) rfl
theorem q527 : (Jvm.Cond.laysFinal "CoverHouse" "CoverHouse" "sizes" "[I") ∈ lw_all := lw_g (lw_at lw_m2 160 rfl) rfl
theorem q528 : (Jvm.Cond.soleField "CoverHouse" "sizes") ∈ lw_all := lw_g (lw_at lw_m2 161 rfl) rfl
theorem q529 : (Jvm.Cond.lays "CoverHouse" "CoverHouse" "sizeSum" "I") ∈ lw_all := lw_g (lw_at lw_m2 162 rfl) rfl
theorem q530 : (Jvm.Cond.soleField "CoverHouse" "sizeSum") ∈ lw_all := lw_g (lw_at lw_m2 163 rfl) rfl
theorem q531 : (Jvm.Cond.laysFinal "CoverHouse" "CoverHouse" "counts" "[I") ∈ lw_all := lw_g (lw_at lw_m2 164 rfl) rfl
theorem q532 : (Jvm.Cond.soleField "CoverHouse" "counts") ∈ lw_all := lw_g (lw_at lw_m2 165 rfl) rfl
theorem q533 : (Jvm.Cond.laysFinal "CoverHouse" "CoverHouse" "masses" "[J") ∈ lw_all := lw_g (lw_at lw_m2 166 rfl) rfl
theorem q534 : (Jvm.Cond.soleField "CoverHouse" "masses") ∈ lw_all := lw_g (lw_at lw_m2 167 rfl) rfl
theorem q535 : (Jvm.Cond.laysFinal "CoverHouse" "CoverHouse" "sums" "[J") ∈ lw_all := lw_g (lw_at lw_m2 168 rfl) rfl
theorem q536 : (Jvm.Cond.soleField "CoverHouse" "sums") ∈ lw_all := lw_g (lw_at lw_m2 169 rfl) rfl
theorem q537 : (Jvm.Cond.laysFinal "CoverHouse" "CoverHouse" "next" "[J") ∈ lw_all := lw_g (lw_at lw_m2 170 rfl) rfl
theorem q538 : (Jvm.Cond.soleField "CoverHouse" "next") ∈ lw_all := lw_g (lw_at lw_m2 171 rfl) rfl
theorem q539 : (Jvm.Cond.lays "CoverHouse" "CoverHouse" "areMasses" "Z") ∈ lw_all := lw_g (lw_at lw_m2 172 rfl) rfl
theorem q540 : (Jvm.Cond.soleField "CoverHouse" "areMasses") ∈ lw_all := lw_g (lw_at lw_m2 173 rfl) rfl
theorem q541 : (Jvm.Cond.superclass "CoverHouse" "java/lang/Object") ∈ lw_all := lw_g (lw_at lw_m2 174 rfl) rfl
theorem q543 : (Jvm.Cond.instanceMethod ({ cls := "CoverHouse", name := "type", desc := "(JI)I" } : Jvm.MethodName)) ∈ lw_all := lw_g (lw_at lw_m2 176 rfl) rfl
theorem q544 : (Jvm.Cond.selects "CoverHouse" ({ cls := "CoverHouse", name := "type", desc := "(JI)I" } : Jvm.MethodName) ({ cls := "CoverHouse", name := "type", desc := "(JI)I" } : Jvm.MethodName)) ∈ lw_all := lw_g (lw_at lw_m2 177 rfl) rfl
theorem q545 : (Jvm.Cond.code ({ cls := "CoverHouse", name := "type", desc := "(JI)I" } : Jvm.MethodName) prog_1_method_3_code (5 : Nat) (Option.some Jvm.ClassFile.FieldType.int)) ∈ lw_all := lw_g (lw_at lw_m2 178 rfl) rfl
theorem q547 : (Jvm.Cond.instanceMethod ({ cls := "CoverHouse", name := "place", desc := "()I" } : Jvm.MethodName)) ∈ lw_all := lw_g (lw_at lw_m2 180 rfl) rfl
theorem q548 : (Jvm.Cond.selects "CoverHouse" ({ cls := "CoverHouse", name := "place", desc := "()I" } : Jvm.MethodName) ({ cls := "CoverHouse", name := "place", desc := "()I" } : Jvm.MethodName)) ∈ lw_all := lw_g (lw_at lw_m2 181 rfl) rfl
theorem q549 : (Jvm.Cond.code ({ cls := "CoverHouse", name := "place", desc := "()I" } : Jvm.MethodName) prog_1_method_4_code (1 : Nat) (Option.some Jvm.ClassFile.FieldType.int)) ∈ lw_all := lw_g (lw_at lw_m2 182 rfl) rfl
theorem q551 : (Jvm.Cond.instanceMethod ({ cls := "CoverHouse", name := "wording", desc := "()I" } : Jvm.MethodName)) ∈ lw_all := lw_g (lw_at lw_m2 184 rfl) rfl
theorem q552 : (Jvm.Cond.selects "CoverHouse" ({ cls := "CoverHouse", name := "wording", desc := "()I" } : Jvm.MethodName) ({ cls := "CoverHouse", name := "wording", desc := "()I" } : Jvm.MethodName)) ∈ lw_all := lw_g (lw_at lw_m2 185 rfl) rfl
theorem q553 : (Jvm.Cond.codeWith ({ cls := "CoverHouse", name := "wording", desc := "()I" } : Jvm.MethodName) prog_1_method_7_code (3 : Nat) (Option.some Jvm.ClassFile.FieldType.int) [((22 : Nat), (51 : Nat), (54 : Nat), (168 : Nat))]) ∈ lw_all := lw_g (lw_at lw_m2 186 rfl) rfl
theorem q554 : (Jvm.Cond.classLink "CoverHouse" (168 : Nat) "CoverHouse$Fault") ∈ lw_all := lw_g (lw_at lw_m2 187 rfl) rfl
theorem q555 : (Jvm.Cond.interfaceEntry "CoverHouse" (201 : Nat)) ∈ lw_tbl := lw_at lw_m2 188 rfl
theorem q556 : (Jvm.Cond.methodLink "CoverHouse" (201 : Nat) ({ cls := "java/util/List", name := "size", desc := "()I" } : Jvm.MethodName)) ∈ lw_all := lw_g (lw_at lw_m2 189 rfl) rfl
theorem q564 : (Jvm.Cond.classLink "CoverHouse" (179 : Nat) "CoverHouse$Wording") ∈ lw_all := lw_g (lw_at lw_m2 197 rfl) rfl
theorem q566 : (Jvm.Cond.methodLinkNest "CoverHouse" (204 : Nat) ({ cls := "CoverHouse$Wording", name := "<init>", desc := "()V" } : Jvm.MethodName) "CoverHouse") ∈ lw_tbl := lw_at lw_m2 199 rfl
theorem q576 : (Jvm.Cond.fieldLinkNest "CoverHouse" (240 : Nat) "CoverHouse$Wording" "facts" "Ljava/util/List;" "CoverHouse") ∈ lw_tbl := lw_at lw_m2 209 rfl
theorem q583 : (Jvm.Cond.fieldLinkNest "CoverHouse" (243 : Nat) "CoverHouse$Wording" "clauses" "Ljava/util/List;" "CoverHouse") ∈ lw_tbl := lw_at lw_m2 216 rfl
theorem q586 : (Jvm.Cond.fieldLinkNest "CoverHouse" (246 : Nat) "CoverHouse$Wording" "rows" "Ljava/util/List;" "CoverHouse") ∈ lw_tbl := lw_at lw_m2 219 rfl
theorem q589 : (Jvm.Cond.fieldLinkNest "CoverHouse" (255 : Nat) "CoverHouse$Wording" "first" "I" "CoverHouse") ∈ lw_tbl := lw_at lw_m2 222 rfl
theorem q592 : (Jvm.Cond.fieldLinkNest "CoverHouse" (258 : Nat) "CoverHouse$Wording" "share" "I" "CoverHouse") ∈ lw_tbl := lw_at lw_m2 225 rfl
theorem q595 : (Jvm.Cond.fieldLinkNest "CoverHouse" (261 : Nat) "CoverHouse$Wording" "most" "[I" "CoverHouse") ∈ lw_tbl := lw_at lw_m2 228 rfl
theorem q600 : (Jvm.Cond.fieldLinkNest "CoverHouse" (252 : Nat) "CoverHouse$Wording" "nodes" "I" "CoverHouse") ∈ lw_tbl := lw_at lw_m2 233 rfl
theorem q603 : (Jvm.Cond.fieldLinkNest "CoverHouse" (276 : Nat) "CoverHouse$Wording" "starts" "Ljava/util/List;" "CoverHouse") ∈ lw_tbl := lw_at lw_m2 236 rfl
theorem q606 : (Jvm.Cond.fieldLinkNest "CoverHouse" (249 : Nat) "CoverHouse$Wording" "cells" "I" "CoverHouse") ∈ lw_tbl := lw_at lw_m2 239 rfl
theorem q611 : (Jvm.Cond.fieldLinkNest "CoverHouse" (381 : Nat) "CoverHouse$Wording" "deciders" "[B" "CoverHouse") ∈ lw_tbl := lw_at lw_m3 4 rfl
theorem q641 : (Jvm.Cond.classLink "CoverHouse" (205 : Nat) "CoverHouse$Reader") ∈ lw_all := lw_g (lw_at lw_m3 34 rfl) rfl
theorem q643 : (Jvm.Cond.methodLink "CoverHouse" (207 : Nat) ({ cls := "CoverHouse$Reader", name := "<init>", desc := "(LCoverHouse;LCoverHouse$Wording;I)V" } : Jvm.MethodName)) ∈ lw_all := lw_g (lw_at lw_m3 36 rfl) rfl
theorem q717 : (Jvm.Cond.fieldLinkNest "CoverHouse" (172 : Nat) "CoverHouse$Fault" "kind" "I" "CoverHouse") ∈ lw_tbl := lw_at lw_m3 110 rfl
theorem q719 : (Jvm.Cond.fieldLinkNest "CoverHouse" (167 : Nat) "CoverHouse$Fault" "place" "I" "CoverHouse") ∈ lw_tbl := lw_at lw_m3 112 rfl
theorem q737 : (Jvm.Cond.privateMethod ({ cls := "CoverHouse", name := "isWord", desc := "(J)Z" } : Jvm.MethodName)) ∈ lw_tbl := lw_at lw_m3 130 rfl
theorem q738 : (Jvm.Cond.instanceMethod ({ cls := "CoverHouse", name := "isWord", desc := "(J)Z" } : Jvm.MethodName)) ∈ lw_all := lw_g (lw_at lw_m3 131 rfl) rfl
theorem q739 : (Jvm.Cond.code ({ cls := "CoverHouse", name := "isWord", desc := "(J)Z" } : Jvm.MethodName) prog_1_method_1_code (4 : Nat) (Option.some Jvm.ClassFile.FieldType.boolean)) ∈ lw_all := lw_g (lw_at lw_m3 132 rfl) rfl
theorem q778 : (Jvm.Cond.methodLink "CoverHouse" (210 : Nat) ({ cls := "CoverHouse$Reader", name := "wording", desc := "()V" } : Jvm.MethodName)) ∈ lw_all := lw_g (lw_at lw_m3 171 rfl) rfl
theorem q851 : (Jvm.Cond.fieldLinkNest "CoverHouse" (266 : Nat) "CoverHouse$Fact" "kind" "I" "CoverHouse") ∈ lw_tbl := lw_at lw_m4 4 rfl
theorem q856 : (Jvm.Cond.fieldLinkNest "CoverHouse" (267 : Nat) "CoverHouse$Fact" "many" "I" "CoverHouse") ∈ lw_tbl := lw_at lw_m4 9 rfl
theorem q860 : (Jvm.Cond.fieldLinkNest "CoverHouse" (270 : Nat) "CoverHouse$Fact" "low" "I" "CoverHouse") ∈ lw_tbl := lw_at lw_m4 13 rfl
theorem q864 : (Jvm.Cond.fieldLinkNest "CoverHouse" (273 : Nat) "CoverHouse$Fact" "high" "I" "CoverHouse") ∈ lw_tbl := lw_at lw_m4 17 rfl
theorem q1065 : (Jvm.Cond.fieldLinkNest "CoverHouse" (283 : Nat) "CoverHouse$Clause" "kind" "I" "CoverHouse") ∈ lw_tbl := lw_at lw_m4 218 rfl
theorem q1120 : (Jvm.Cond.fieldLinkNest "CoverHouse" (400 : Nat) "CoverHouse$PriceRow" "kind" "I" "CoverHouse") ∈ lw_tbl := lw_at lw_m5 33 rfl
theorem q1122 : (Jvm.Cond.fieldLinkNest "CoverHouse" (401 : Nat) "CoverHouse$PriceRow" "number" "I" "CoverHouse") ∈ lw_tbl := lw_at lw_m5 35 rfl
theorem q1125 : (Jvm.Cond.fieldLinkNest "CoverHouse" (393 : Nat) "CoverHouse$PriceRow" "cond" "LCoverHouse$Cond;" "CoverHouse") ∈ lw_tbl := lw_at lw_m5 38 rfl
theorem q1133 : (Jvm.Cond.methodLink "CoverHouse" (213 : Nat) ({ cls := "CoverHouse", name := "finish", desc := "(LCoverHouse$Wording;)I" } : Jvm.MethodName)) ∈ lw_all := lw_g (lw_at lw_m5 46 rfl) rfl
theorem q1134 : (Jvm.Cond.privateMethod ({ cls := "CoverHouse", name := "finish", desc := "(LCoverHouse$Wording;)I" } : Jvm.MethodName)) ∈ lw_tbl := lw_at lw_m5 47 rfl
theorem q1135 : (Jvm.Cond.instanceMethod ({ cls := "CoverHouse", name := "finish", desc := "(LCoverHouse$Wording;)I" } : Jvm.MethodName)) ∈ lw_all := lw_g (lw_at lw_m5 48 rfl) rfl
theorem q1136 : (Jvm.Cond.code ({ cls := "CoverHouse", name := "finish", desc := "(LCoverHouse$Wording;)I" } : Jvm.MethodName) prog_1_method_6_code (2 : Nat) (Option.some Jvm.ClassFile.FieldType.int)) ∈ lw_all := lw_g (lw_at lw_m5 49 rfl) rfl
theorem q1137 : (Jvm.Cond.methodLink "CoverHouse" (178 : Nat) ({ cls := "CoverHouse$Wording", name := "isParted", desc := "(Ljava/util/List;)Z" } : Jvm.MethodName)) ∈ lw_all := lw_g (lw_at lw_m5 50 rfl) rfl
theorem q1196 : (Jvm.Cond.methodLink "CoverHouse" (184 : Nat) ({ cls := "CoverHouse$Fault", name := "<init>", desc := "(II)V" } : Jvm.MethodName)) ∈ lw_all := lw_g (lw_at lw_m5 109 rfl) rfl
theorem q1197 : (Jvm.Cond.methodLink "CoverHouse" (187 : Nat) ({ cls := "CoverHouse$Wording", name := "countNodes", desc := "()I" } : Jvm.MethodName)) ∈ lw_all := lw_g (lw_at lw_m5 110 rfl) rfl
theorem q1201 : (Jvm.Cond.methodLink "CoverHouse" (191 : Nat) ({ cls := "CoverHouse$Wording", name := "answerAll", desc := "(LCoverHouse$Full;)V" } : Jvm.MethodName)) ∈ lw_all := lw_g (lw_at lw_m5 114 rfl) rfl
theorem q1254 : (Jvm.Cond.interfaceEntry "CoverHouse" (195 : Nat)) ∈ lw_tbl := lw_at lw_m5 167 rfl
theorem q1255 : (Jvm.Cond.methodLink "CoverHouse" (195 : Nat) ({ cls := "java/util/List", name := "add", desc := "(Ljava/lang/Object;)Z" } : Jvm.MethodName)) ∈ lw_all := lw_g (lw_at lw_m5 168 rfl) rfl
theorem q1256 : (Jvm.Cond.methodLink "CoverHouse" (217 : Nat) ({ cls := "CoverHouse", name := "failed", desc := "(LCoverHouse$Fault;)I" } : Jvm.MethodName)) ∈ lw_all := lw_g (lw_at lw_m5 169 rfl) rfl
theorem q1257 : (Jvm.Cond.privateMethod ({ cls := "CoverHouse", name := "failed", desc := "(LCoverHouse$Fault;)I" } : Jvm.MethodName)) ∈ lw_tbl := lw_at lw_m5 170 rfl
theorem q1258 : (Jvm.Cond.instanceMethod ({ cls := "CoverHouse", name := "failed", desc := "(LCoverHouse$Fault;)I" } : Jvm.MethodName)) ∈ lw_all := lw_g (lw_at lw_m5 171 rfl) rfl
theorem q1259 : (Jvm.Cond.code ({ cls := "CoverHouse", name := "failed", desc := "(LCoverHouse$Fault;)I" } : Jvm.MethodName) prog_1_method_5_code (2 : Nat) (Option.some Jvm.ClassFile.FieldType.int)) ∈ lw_all := lw_g (lw_at lw_m5 172 rfl) rfl
theorem q1261 : (Jvm.Cond.instanceMethod ({ cls := "CoverHouse", name := "endorse", desc := "(I)I" } : Jvm.MethodName)) ∈ lw_all := lw_g (lw_at lw_m5 174 rfl) rfl
theorem q1262 : (Jvm.Cond.selects "CoverHouse" ({ cls := "CoverHouse", name := "endorse", desc := "(I)I" } : Jvm.MethodName) ({ cls := "CoverHouse", name := "endorse", desc := "(I)I" } : Jvm.MethodName)) ∈ lw_all := lw_g (lw_at lw_m5 175 rfl) rfl
theorem q1263 : (Jvm.Cond.codeWith ({ cls := "CoverHouse", name := "endorse", desc := "(I)I" } : Jvm.MethodName) prog_1_method_10_code (4 : Nat) (Option.some Jvm.ClassFile.FieldType.int) [((32 : Nat), (75 : Nat), (78 : Nat), (168 : Nat))]) ∈ lw_all := lw_g (lw_at lw_m5 176 rfl) rfl
theorem q1264 : (Jvm.Cond.methodLink "CoverHouse" (225 : Nat) ({ cls := "CoverHouse", name := "isWording", desc := "(I)Z" } : Jvm.MethodName)) ∈ lw_all := lw_g (lw_at lw_m5 177 rfl) rfl
theorem q1265 : (Jvm.Cond.privateMethod ({ cls := "CoverHouse", name := "isWording", desc := "(I)Z" } : Jvm.MethodName)) ∈ lw_tbl := lw_at lw_m5 178 rfl
theorem q1266 : (Jvm.Cond.instanceMethod ({ cls := "CoverHouse", name := "isWording", desc := "(I)Z" } : Jvm.MethodName)) ∈ lw_all := lw_g (lw_at lw_m5 179 rfl) rfl
theorem q1267 : (Jvm.Cond.code ({ cls := "CoverHouse", name := "isWording", desc := "(I)Z" } : Jvm.MethodName) prog_1_method_8_code (2 : Nat) (Option.some Jvm.ClassFile.FieldType.boolean)) ∈ lw_all := lw_g (lw_at lw_m5 180 rfl) rfl
theorem q1268 : (Jvm.Cond.methodLink "CoverHouse" (229 : Nat) ({ cls := "CoverHouse", name := "the", desc := "(I)LCoverHouse$Wording;" } : Jvm.MethodName)) ∈ lw_all := lw_g (lw_at lw_m5 181 rfl) rfl
theorem q1269 : (Jvm.Cond.privateMethod ({ cls := "CoverHouse", name := "the", desc := "(I)LCoverHouse$Wording;" } : Jvm.MethodName)) ∈ lw_tbl := lw_at lw_m5 182 rfl
theorem q1270 : (Jvm.Cond.instanceMethod ({ cls := "CoverHouse", name := "the", desc := "(I)LCoverHouse$Wording;" } : Jvm.MethodName)) ∈ lw_all := lw_g (lw_at lw_m5 183 rfl) rfl
theorem q1271 : (Jvm.Cond.code ({ cls := "CoverHouse", name := "the", desc := "(I)LCoverHouse$Wording;" } : Jvm.MethodName) prog_1_method_9_code (2 : Nat) (Option.some (Jvm.ClassFile.FieldType.object "CoverHouse$Wording"))) ∈ lw_all := lw_g (lw_at lw_m5 184 rfl) rfl
theorem q1272 : (Jvm.Cond.interfaceEntry "CoverHouse" (221 : Nat)) ∈ lw_tbl := lw_at lw_m5 185 rfl
theorem q1273 : (Jvm.Cond.methodLink "CoverHouse" (221 : Nat) ({ cls := "java/util/List", name := "get", desc := "(I)Ljava/lang/Object;" } : Jvm.MethodName)) ∈ lw_all := lw_g (lw_at lw_m5 186 rfl) rfl
theorem q1274 : (Jvm.Cond.methodLink "CoverHouse" (233 : Nat) ({ cls := "CoverHouse$Wording", name := "takeOver", desc := "(LCoverHouse$Wording;)V" } : Jvm.MethodName)) ∈ lw_all := lw_g (lw_at lw_m5 187 rfl) rfl
theorem q1298 : (Jvm.Cond.methodLink "CoverHouse" (237 : Nat) ({ cls := "CoverHouse$Reader", name := "endorsement", desc := "(LCoverHouse$Wording;)V" } : Jvm.MethodName)) ∈ lw_all := lw_g (lw_at lw_m5 211 rfl) rfl
theorem q1333 : (Jvm.Cond.instanceMethod ({ cls := "CoverHouse", name := "wordingPart", desc := "(II)I" } : Jvm.MethodName)) ∈ lw_all := lw_g (lw_at lw_m6 6 rfl) rfl
theorem q1334 : (Jvm.Cond.selects "CoverHouse" ({ cls := "CoverHouse", name := "wordingPart", desc := "(II)I" } : Jvm.MethodName) ({ cls := "CoverHouse", name := "wordingPart", desc := "(II)I" } : Jvm.MethodName)) ∈ lw_all := lw_g (lw_at lw_m6 7 rfl) rfl
theorem q1335 : (Jvm.Cond.code ({ cls := "CoverHouse", name := "wordingPart", desc := "(II)I" } : Jvm.MethodName) prog_1_method_11_code (4 : Nat) (Option.some Jvm.ClassFile.FieldType.int)) ∈ lw_all := lw_g (lw_at lw_m6 8 rfl) rfl
theorem q1337 : (Jvm.Cond.instanceMethod ({ cls := "CoverHouse", name := "factPart", desc := "(III)I" } : Jvm.MethodName)) ∈ lw_all := lw_g (lw_at lw_m6 10 rfl) rfl
theorem q1338 : (Jvm.Cond.selects "CoverHouse" ({ cls := "CoverHouse", name := "factPart", desc := "(III)I" } : Jvm.MethodName) ({ cls := "CoverHouse", name := "factPart", desc := "(III)I" } : Jvm.MethodName)) ∈ lw_all := lw_g (lw_at lw_m6 11 rfl) rfl
theorem q1339 : (Jvm.Cond.code ({ cls := "CoverHouse", name := "factPart", desc := "(III)I" } : Jvm.MethodName) prog_1_method_12_code (5 : Nat) (Option.some Jvm.ClassFile.FieldType.int)) ∈ lw_all := lw_g (lw_at lw_m6 12 rfl) rfl
theorem q1340 : (Jvm.Cond.classLink "CoverHouse" (264 : Nat) "CoverHouse$Fact") ∈ lw_all := lw_g (lw_at lw_m6 13 rfl) rfl
theorem q1341 : (Jvm.Cond.classLink "CoverHouse" (277 : Nat) "CoverHouse$Starts") ∈ lw_all := lw_g (lw_at lw_m6 14 rfl) rfl
theorem q1343 : (Jvm.Cond.instanceMethod ({ cls := "CoverHouse", name := "clause", desc := "(II)I" } : Jvm.MethodName)) ∈ lw_all := lw_g (lw_at lw_m6 16 rfl) rfl
theorem q1344 : (Jvm.Cond.selects "CoverHouse" ({ cls := "CoverHouse", name := "clause", desc := "(II)I" } : Jvm.MethodName) ({ cls := "CoverHouse", name := "clause", desc := "(II)I" } : Jvm.MethodName)) ∈ lw_all := lw_g (lw_at lw_m6 17 rfl) rfl
theorem q1345 : (Jvm.Cond.code ({ cls := "CoverHouse", name := "clause", desc := "(II)I" } : Jvm.MethodName) prog_1_method_13_code (3 : Nat) (Option.some Jvm.ClassFile.FieldType.int)) ∈ lw_all := lw_g (lw_at lw_m6 18 rfl) rfl
theorem q1346 : (Jvm.Cond.classLink "CoverHouse" (281 : Nat) "CoverHouse$Clause") ∈ lw_all := lw_g (lw_at lw_m6 19 rfl) rfl
theorem q1348 : (Jvm.Cond.instanceMethod ({ cls := "CoverHouse", name := "compare", desc := "(II)I" } : Jvm.MethodName)) ∈ lw_all := lw_g (lw_at lw_m6 21 rfl) rfl
theorem q1349 : (Jvm.Cond.selects "CoverHouse" ({ cls := "CoverHouse", name := "compare", desc := "(II)I" } : Jvm.MethodName) ({ cls := "CoverHouse", name := "compare", desc := "(II)I" } : Jvm.MethodName)) ∈ lw_all := lw_g (lw_at lw_m6 22 rfl) rfl
theorem q1350 : (Jvm.Cond.code ({ cls := "CoverHouse", name := "compare", desc := "(II)I" } : Jvm.MethodName) prog_1_method_14_code (3 : Nat) (Option.some Jvm.ClassFile.FieldType.int)) ∈ lw_all := lw_g (lw_at lw_m6 23 rfl) rfl
theorem q1351 : (Jvm.Cond.methodLink "CoverHouse" (284 : Nat) ({ cls := "CoverHouse$Wording", name := "isComparable", desc := "(LCoverHouse$Wording;)Z" } : Jvm.MethodName)) ∈ lw_all := lw_g (lw_at lw_m6 24 rfl) rfl
theorem q1359 : (Jvm.Cond.methodLink "CoverHouse" (288 : Nat) ({ cls := "CoverHouse$Joint", name := "isParted", desc := "(LCoverHouse$Wording;LCoverHouse$Wording;LCoverHouse$Cond;)Z" } : Jvm.MethodName)) ∈ lw_all := lw_g (lw_at lw_m6 32 rfl) rfl
theorem q1374 : (Jvm.Cond.methodLink "CoverHouse" (291 : Nat) ({ cls := "CoverHouse$Joint", name := "compare", desc := "(LCoverHouse$Wording;LCoverHouse$Wording;)I" } : Jvm.MethodName)) ∈ lw_all := lw_g (lw_at lw_m6 47 rfl) rfl
theorem q1395 : (Jvm.Cond.instanceMethod ({ cls := "CoverHouse", name := "apart", desc := "(II)I" } : Jvm.MethodName)) ∈ lw_all := lw_g (lw_at lw_m6 68 rfl) rfl
theorem q1396 : (Jvm.Cond.selects "CoverHouse" ({ cls := "CoverHouse", name := "apart", desc := "(II)I" } : Jvm.MethodName) ({ cls := "CoverHouse", name := "apart", desc := "(II)I" } : Jvm.MethodName)) ∈ lw_all := lw_g (lw_at lw_m6 69 rfl) rfl
theorem q1397 : (Jvm.Cond.code ({ cls := "CoverHouse", name := "apart", desc := "(II)I" } : Jvm.MethodName) prog_1_method_15_code (3 : Nat) (Option.some Jvm.ClassFile.FieldType.int)) ∈ lw_all := lw_g (lw_at lw_m6 70 rfl) rfl
theorem q1399 : (Jvm.Cond.instanceMethod ({ cls := "CoverHouse", name := "judge", desc := "(I)I" } : Jvm.MethodName)) ∈ lw_all := lw_g (lw_at lw_m6 72 rfl) rfl
theorem q1400 : (Jvm.Cond.selects "CoverHouse" ({ cls := "CoverHouse", name := "judge", desc := "(I)I" } : Jvm.MethodName) ({ cls := "CoverHouse", name := "judge", desc := "(I)I" } : Jvm.MethodName)) ∈ lw_all := lw_g (lw_at lw_m6 73 rfl) rfl
theorem q1401 : (Jvm.Cond.codeWith ({ cls := "CoverHouse", name := "judge", desc := "(I)I" } : Jvm.MethodName) prog_1_method_16_code (4 : Nat) (Option.some Jvm.ClassFile.FieldType.int) [((15 : Nat), (78 : Nat), (81 : Nat), (168 : Nat))]) ∈ lw_all := lw_g (lw_at lw_m6 74 rfl) rfl
theorem q1402 : (Jvm.Cond.methodLink "CoverHouse" (305 : Nat) ({ cls := "CoverHouse$Reader", name := "law", desc := "()I" } : Jvm.MethodName)) ∈ lw_all := lw_g (lw_at lw_m6 75 rfl) rfl
theorem q1409 : (Jvm.Cond.methodLink "CoverHouse" (311 : Nat) ({ cls := "CoverHouse$Joint", name := "judge", desc := "(LCoverHouse$Wording;ILCoverHouse$Cond;)I" } : Jvm.MethodName)) ∈ lw_all := lw_g (lw_at lw_m6 82 rfl) rfl
theorem q1416 : (Jvm.Cond.instanceMethod ({ cls := "CoverHouse", name := "shown", desc := "(I)I" } : Jvm.MethodName)) ∈ lw_all := lw_g (lw_at lw_m6 89 rfl) rfl
theorem q1417 : (Jvm.Cond.selects "CoverHouse" ({ cls := "CoverHouse", name := "shown", desc := "(I)I" } : Jvm.MethodName) ({ cls := "CoverHouse", name := "shown", desc := "(I)I" } : Jvm.MethodName)) ∈ lw_all := lw_g (lw_at lw_m6 90 rfl) rfl
theorem q1418 : (Jvm.Cond.code ({ cls := "CoverHouse", name := "shown", desc := "(I)I" } : Jvm.MethodName) prog_1_method_17_code (2 : Nat) (Option.some Jvm.ClassFile.FieldType.int)) ∈ lw_all := lw_g (lw_at lw_m6 91 rfl) rfl
theorem q1420 : (Jvm.Cond.instanceMethod ({ cls := "CoverHouse", name := "event", desc := "(I)I" } : Jvm.MethodName)) ∈ lw_all := lw_g (lw_at lw_m6 93 rfl) rfl
theorem q1421 : (Jvm.Cond.selects "CoverHouse" ({ cls := "CoverHouse", name := "event", desc := "(I)I" } : Jvm.MethodName) ({ cls := "CoverHouse", name := "event", desc := "(I)I" } : Jvm.MethodName)) ∈ lw_all := lw_g (lw_at lw_m6 94 rfl) rfl
theorem q1422 : (Jvm.Cond.code ({ cls := "CoverHouse", name := "event", desc := "(I)I" } : Jvm.MethodName) prog_1_method_20_code (2 : Nat) (Option.some Jvm.ClassFile.FieldType.int)) ∈ lw_all := lw_g (lw_at lw_m6 95 rfl) rfl
theorem q1423 : (Jvm.Cond.classLink "CoverHouse" (325 : Nat) "CoverHouse$Event") ∈ lw_all := lw_g (lw_at lw_m6 96 rfl) rfl
theorem q1425 : (Jvm.Cond.methodLink "CoverHouse" (327 : Nat) ({ cls := "CoverHouse$Event", name := "<init>", desc := "(LCoverHouse$Wording;)V" } : Jvm.MethodName)) ∈ lw_all := lw_g (lw_at lw_m6 98 rfl) rfl
theorem q1442 : (Jvm.Cond.fieldLinkNest "CoverHouse" (348 : Nat) "CoverHouse$Known" "size" "I" "CoverHouse") ∈ lw_tbl := lw_at lw_m6 115 rfl
theorem q1453 : (Jvm.Cond.fieldLinkNest "CoverHouse" (337 : Nat) "CoverHouse$Event" "wording" "LCoverHouse$Wording;" "CoverHouse") ∈ lw_tbl := lw_at lw_m6 126 rfl
theorem q1456 : (Jvm.Cond.fieldLinkNest "CoverHouse" (332 : Nat) "CoverHouse$Event" "facts" "Ljava/util/List;" "CoverHouse") ∈ lw_tbl := lw_at lw_m6 129 rfl
theorem q1463 : (Jvm.Cond.instanceMethod ({ cls := "CoverHouse", name := "tell", desc := "(IIII)I" } : Jvm.MethodName)) ∈ lw_all := lw_g (lw_at lw_m6 136 rfl) rfl
theorem q1464 : (Jvm.Cond.selects "CoverHouse" ({ cls := "CoverHouse", name := "tell", desc := "(IIII)I" } : Jvm.MethodName) ({ cls := "CoverHouse", name := "tell", desc := "(IIII)I" } : Jvm.MethodName)) ∈ lw_all := lw_g (lw_at lw_m6 137 rfl) rfl
theorem q1465 : (Jvm.Cond.code ({ cls := "CoverHouse", name := "tell", desc := "(IIII)I" } : Jvm.MethodName) prog_1_method_22_code (6 : Nat) (Option.some Jvm.ClassFile.FieldType.int)) ∈ lw_all := lw_g (lw_at lw_m6 138 rfl) rfl
theorem q1466 : (Jvm.Cond.methodLink "CoverHouse" (333 : Nat) ({ cls := "CoverHouse", name := "isFact", desc := "(II)Z" } : Jvm.MethodName)) ∈ lw_all := lw_g (lw_at lw_m6 139 rfl) rfl
theorem q1467 : (Jvm.Cond.privateMethod ({ cls := "CoverHouse", name := "isFact", desc := "(II)Z" } : Jvm.MethodName)) ∈ lw_tbl := lw_at lw_m6 140 rfl
theorem q1468 : (Jvm.Cond.instanceMethod ({ cls := "CoverHouse", name := "isFact", desc := "(II)Z" } : Jvm.MethodName)) ∈ lw_all := lw_g (lw_at lw_m6 141 rfl) rfl
theorem q1469 : (Jvm.Cond.code ({ cls := "CoverHouse", name := "isFact", desc := "(II)Z" } : Jvm.MethodName) prog_1_method_21_code (3 : Nat) (Option.some Jvm.ClassFile.FieldType.boolean)) ∈ lw_all := lw_g (lw_at lw_m6 142 rfl) rfl
theorem q1470 : (Jvm.Cond.methodLink "CoverHouse" (329 : Nat) ({ cls := "CoverHouse", name := "isEvent", desc := "(I)Z" } : Jvm.MethodName)) ∈ lw_all := lw_g (lw_at lw_m6 143 rfl) rfl
theorem q1471 : (Jvm.Cond.privateMethod ({ cls := "CoverHouse", name := "isEvent", desc := "(I)Z" } : Jvm.MethodName)) ∈ lw_tbl := lw_at lw_m6 144 rfl
theorem q1472 : (Jvm.Cond.instanceMethod ({ cls := "CoverHouse", name := "isEvent", desc := "(I)Z" } : Jvm.MethodName)) ∈ lw_all := lw_g (lw_at lw_m6 145 rfl) rfl
theorem q1473 : (Jvm.Cond.code ({ cls := "CoverHouse", name := "isEvent", desc := "(I)Z" } : Jvm.MethodName) prog_1_method_18_code (2 : Nat) (Option.some Jvm.ClassFile.FieldType.boolean)) ∈ lw_all := lw_g (lw_at lw_m6 146 rfl) rfl
theorem q1474 : (Jvm.Cond.methodLink "CoverHouse" (340 : Nat) ({ cls := "CoverHouse$Fact", name := "has", desc := "(I)Z" } : Jvm.MethodName)) ∈ lw_all := lw_g (lw_at lw_m6 147 rfl) rfl
theorem q1478 : (Jvm.Cond.methodLink "CoverHouse" (343 : Nat) ({ cls := "CoverHouse", name := "isDay", desc := "(I)Z" } : Jvm.MethodName)) ∈ lw_all := lw_g (lw_at lw_m6 151 rfl) rfl
theorem q1479 : (Jvm.Cond.static ({ cls := "CoverHouse", name := "isDay", desc := "(I)Z" } : Jvm.MethodName)) ∈ lw_all := lw_g (lw_at lw_m6 152 rfl) rfl
theorem q1480 : (Jvm.Cond.code ({ cls := "CoverHouse", name := "isDay", desc := "(I)Z" } : Jvm.MethodName) prog_1_method_19_code (1 : Nat) (Option.some Jvm.ClassFile.FieldType.boolean)) ∈ lw_all := lw_g (lw_at lw_m6 153 rfl) rfl
theorem q1481 : (Jvm.Cond.classLink "CoverHouse" (346 : Nat) "CoverHouse$Known") ∈ lw_all := lw_g (lw_at lw_m6 154 rfl) rfl
theorem q1482 : (Jvm.Cond.methodLink "CoverHouse" (349 : Nat) ({ cls := "CoverHouse$Known", name := "add", desc := "(II)V" } : Jvm.MethodName)) ∈ lw_all := lw_g (lw_at lw_m6 155 rfl) rfl
theorem q1487 : (Jvm.Cond.instanceMethod ({ cls := "CoverHouse", name := "fact", desc := "(III)I" } : Jvm.MethodName)) ∈ lw_all := lw_g (lw_at lw_m6 160 rfl) rfl
theorem q1488 : (Jvm.Cond.selects "CoverHouse" ({ cls := "CoverHouse", name := "fact", desc := "(III)I" } : Jvm.MethodName) ({ cls := "CoverHouse", name := "fact", desc := "(III)I" } : Jvm.MethodName)) ∈ lw_all := lw_g (lw_at lw_m6 161 rfl) rfl
theorem q1489 : (Jvm.Cond.code ({ cls := "CoverHouse", name := "fact", desc := "(III)I" } : Jvm.MethodName) prog_1_method_23_code (4 : Nat) (Option.some Jvm.ClassFile.FieldType.int)) ∈ lw_all := lw_g (lw_at lw_m6 162 rfl) rfl
theorem q1490 : (Jvm.Cond.methodLink "CoverHouse" (351 : Nat) ({ cls := "CoverHouse$Known", name := "on", desc := "(II)I" } : Jvm.MethodName)) ∈ lw_all := lw_g (lw_at lw_m6 163 rfl) rfl
theorem q1495 : (Jvm.Cond.instanceMethod ({ cls := "CoverHouse", name := "covers", desc := "(II)I" } : Jvm.MethodName)) ∈ lw_all := lw_g (lw_at lw_m6 168 rfl) rfl
theorem q1496 : (Jvm.Cond.selects "CoverHouse" ({ cls := "CoverHouse", name := "covers", desc := "(II)I" } : Jvm.MethodName) ({ cls := "CoverHouse", name := "covers", desc := "(II)I" } : Jvm.MethodName)) ∈ lw_all := lw_g (lw_at lw_m6 169 rfl) rfl
theorem q1497 : (Jvm.Cond.code ({ cls := "CoverHouse", name := "covers", desc := "(II)I" } : Jvm.MethodName) prog_1_method_25_code (4 : Nat) (Option.some Jvm.ClassFile.FieldType.int)) ∈ lw_all := lw_g (lw_at lw_m6 170 rfl) rfl
theorem q1498 : (Jvm.Cond.methodLink "CoverHouse" (359 : Nat) ({ cls := "CoverHouse", name := "look", desc := "(II)I" } : Jvm.MethodName)) ∈ lw_all := lw_g (lw_at lw_m6 171 rfl) rfl
theorem q1499 : (Jvm.Cond.privateMethod ({ cls := "CoverHouse", name := "look", desc := "(II)I" } : Jvm.MethodName)) ∈ lw_tbl := lw_at lw_m6 172 rfl
theorem q1500 : (Jvm.Cond.instanceMethod ({ cls := "CoverHouse", name := "look", desc := "(II)I" } : Jvm.MethodName)) ∈ lw_all := lw_g (lw_at lw_m6 173 rfl) rfl
theorem q1501 : (Jvm.Cond.code ({ cls := "CoverHouse", name := "look", desc := "(II)I" } : Jvm.MethodName) prog_1_method_24_code (4 : Nat) (Option.some Jvm.ClassFile.FieldType.int)) ∈ lw_all := lw_g (lw_at lw_m6 174 rfl) rfl
theorem q1502 : (Jvm.Cond.methodLink "CoverHouse" (355 : Nat) ({ cls := "CoverHouse$Ways", name := "set", desc := "(LCoverHouse$Wording;LCoverHouse$Event;I)V" } : Jvm.MethodName)) ∈ lw_all := lw_g (lw_at lw_m6 175 rfl) rfl
theorem q1514 : (Jvm.Cond.methodLink "CoverHouse" (365 : Nat) ({ cls := "CoverHouse$Ways", name := "answerBy", desc := "(I)I" } : Jvm.MethodName)) ∈ lw_all := lw_g (lw_at lw_m6 187 rfl) rfl
theorem q1531 : (Jvm.Cond.instanceMethod ({ cls := "CoverHouse", name := "settles", desc := "(II)I" } : Jvm.MethodName)) ∈ lw_all := lw_g (lw_at lw_m6 204 rfl) rfl
theorem q1532 : (Jvm.Cond.selects "CoverHouse" ({ cls := "CoverHouse", name := "settles", desc := "(II)I" } : Jvm.MethodName) ({ cls := "CoverHouse", name := "settles", desc := "(II)I" } : Jvm.MethodName)) ∈ lw_all := lw_g (lw_at lw_m6 205 rfl) rfl
theorem q1533 : (Jvm.Cond.code ({ cls := "CoverHouse", name := "settles", desc := "(II)I" } : Jvm.MethodName) prog_1_method_26_code (4 : Nat) (Option.some Jvm.ClassFile.FieldType.int)) ∈ lw_all := lw_g (lw_at lw_m6 206 rfl) rfl
theorem q1534 : (Jvm.Cond.methodLink "CoverHouse" (369 : Nat) ({ cls := "CoverHouse$Ways", name := "least", desc := "(Z)I" } : Jvm.MethodName)) ∈ lw_all := lw_g (lw_at lw_m6 207 rfl) rfl
theorem q1557 : (Jvm.Cond.instanceMethod ({ cls := "CoverHouse", name := "because", desc := "(II)I" } : Jvm.MethodName)) ∈ lw_all := lw_g (lw_at lw_m6 230 rfl) rfl
theorem q1558 : (Jvm.Cond.selects "CoverHouse" ({ cls := "CoverHouse", name := "because", desc := "(II)I" } : Jvm.MethodName) ({ cls := "CoverHouse", name := "because", desc := "(II)I" } : Jvm.MethodName)) ∈ lw_all := lw_g (lw_at lw_m6 231 rfl) rfl
theorem q1559 : (Jvm.Cond.code ({ cls := "CoverHouse", name := "because", desc := "(II)I" } : Jvm.MethodName) prog_1_method_27_code (4 : Nat) (Option.some Jvm.ClassFile.FieldType.int)) ∈ lw_all := lw_g (lw_at lw_m6 232 rfl) rfl
theorem q1561 : (Jvm.Cond.instanceMethod ({ cls := "CoverHouse", name := "decider", desc := "(II)I" } : Jvm.MethodName)) ∈ lw_all := lw_g (lw_at lw_m6 234 rfl) rfl
theorem q1562 : (Jvm.Cond.selects "CoverHouse" ({ cls := "CoverHouse", name := "decider", desc := "(II)I" } : Jvm.MethodName) ({ cls := "CoverHouse", name := "decider", desc := "(II)I" } : Jvm.MethodName)) ∈ lw_all := lw_g (lw_at lw_m6 235 rfl) rfl
theorem q1563 : (Jvm.Cond.code ({ cls := "CoverHouse", name := "decider", desc := "(II)I" } : Jvm.MethodName) prog_1_method_28_code (7 : Nat) (Option.some Jvm.ClassFile.FieldType.int)) ∈ lw_all := lw_g (lw_at lw_m6 236 rfl) rfl
theorem q1565 : (Jvm.Cond.instanceMethod ({ cls := "CoverHouse", name := "ways", desc := "(III)I" } : Jvm.MethodName)) ∈ lw_all := lw_g (lw_at lw_m6 238 rfl) rfl
theorem q1566 : (Jvm.Cond.selects "CoverHouse" ({ cls := "CoverHouse", name := "ways", desc := "(III)I" } : Jvm.MethodName) ({ cls := "CoverHouse", name := "ways", desc := "(III)I" } : Jvm.MethodName)) ∈ lw_all := lw_g (lw_at lw_m6 239 rfl) rfl
theorem q1567 : (Jvm.Cond.code ({ cls := "CoverHouse", name := "ways", desc := "(III)I" } : Jvm.MethodName) prog_1_method_29_code (4 : Nat) (Option.some Jvm.ClassFile.FieldType.int)) ∈ lw_all := lw_g (lw_at lw_m7 0 rfl) rfl
theorem q1568 : (Jvm.Cond.methodLink "CoverHouse" (384 : Nat) ({ cls := "CoverHouse$Ways", name := "count", desc := "(I)V" } : Jvm.MethodName)) ∈ lw_all := lw_g (lw_at lw_m7 1 rfl) rfl
theorem q1570 : (Jvm.Cond.instanceMethod ({ cls := "CoverHouse", name := "price", desc := "(II)I" } : Jvm.MethodName)) ∈ lw_all := lw_g (lw_at lw_m7 3 rfl) rfl
theorem q1571 : (Jvm.Cond.selects "CoverHouse" ({ cls := "CoverHouse", name := "price", desc := "(II)I" } : Jvm.MethodName) ({ cls := "CoverHouse", name := "price", desc := "(II)I" } : Jvm.MethodName)) ∈ lw_all := lw_g (lw_at lw_m7 4 rfl) rfl
theorem q1572 : (Jvm.Cond.code ({ cls := "CoverHouse", name := "price", desc := "(II)I" } : Jvm.MethodName) prog_1_method_31_code (12 : Nat) (Option.some Jvm.ClassFile.FieldType.int)) ∈ lw_all := lw_g (lw_at lw_m7 5 rfl) rfl
theorem q1573 : (Jvm.Cond.classLink "CoverHouse" (391 : Nat) "CoverHouse$PriceRow") ∈ lw_all := lw_g (lw_at lw_m7 6 rfl) rfl
theorem q1574 : (Jvm.Cond.methodLink "CoverHouse" (396 : Nat) ({ cls := "CoverHouse$Ways", name := "truth", desc := "(LCoverHouse$Cond;)I" } : Jvm.MethodName)) ∈ lw_all := lw_g (lw_at lw_m7 7 rfl) rfl
theorem q1581 : (Jvm.Cond.methodLink "CoverHouse" (404 : Nat) ({ cls := "CoverHouse", name := "rounded", desc := "(JJ)J" } : Jvm.MethodName)) ∈ lw_all := lw_g (lw_at lw_m7 14 rfl) rfl
theorem q1582 : (Jvm.Cond.static ({ cls := "CoverHouse", name := "rounded", desc := "(JJ)J" } : Jvm.MethodName)) ∈ lw_all := lw_g (lw_at lw_m7 15 rfl) rfl
theorem q1583 : (Jvm.Cond.code ({ cls := "CoverHouse", name := "rounded", desc := "(JJ)J" } : Jvm.MethodName) prog_1_method_30_code (9 : Nat) (Option.some Jvm.ClassFile.FieldType.long)) ∈ lw_all := lw_g (lw_at lw_m7 16 rfl) rfl
theorem q1584 : (Jvm.Cond.constantLong "CoverHouse" (389 : Nat) (2 : Int64)) ∈ lw_all := lw_g (lw_at lw_m7 17 rfl) rfl
theorem q1585 : (Jvm.Cond.constantLong "CoverHouse" (408 : Nat) (99999999 : Int64)) ∈ lw_all := lw_g (lw_at lw_m7 18 rfl) rfl
theorem q1586 : (Jvm.Cond.methodLink "CoverHouse" (410 : Nat) ({ cls := "java/lang/Math", name := "max", desc := "(JJ)J" } : Jvm.MethodName)) ∈ lw_all := lw_g (lw_at lw_m7 19 rfl) rfl
theorem q1589 : (Jvm.Cond.constantLong "CoverHouse" (415 : Nat) (1000 : Int64)) ∈ lw_all := lw_g (lw_at lw_m7 22 rfl) rfl
theorem q1591 : (Jvm.Cond.instanceMethod ({ cls := "CoverHouse", name := "policy", desc := "()I" } : Jvm.MethodName)) ∈ lw_all := lw_g (lw_at lw_m7 24 rfl) rfl
theorem q1592 : (Jvm.Cond.selects "CoverHouse" ({ cls := "CoverHouse", name := "policy", desc := "()I" } : Jvm.MethodName) ({ cls := "CoverHouse", name := "policy", desc := "()I" } : Jvm.MethodName)) ∈ lw_all := lw_g (lw_at lw_m7 25 rfl) rfl
theorem q1593 : (Jvm.Cond.code ({ cls := "CoverHouse", name := "policy", desc := "()I" } : Jvm.MethodName) prog_1_method_32_code (1 : Nat) (Option.some Jvm.ClassFile.FieldType.int)) ∈ lw_all := lw_g (lw_at lw_m7 26 rfl) rfl
theorem q1594 : (Jvm.Cond.classLink "CoverHouse" (417 : Nat) "CoverHouse$Policy") ∈ lw_all := lw_g (lw_at lw_m7 27 rfl) rfl
theorem q1596 : (Jvm.Cond.methodLinkNest "CoverHouse" (419 : Nat) ({ cls := "CoverHouse$Policy", name := "<init>", desc := "()V" } : Jvm.MethodName) "CoverHouse") ∈ lw_tbl := lw_at lw_m7 29 rfl
theorem q1601 : (Jvm.Cond.fieldLinkNest "CoverHouse" (425 : Nat) "CoverHouse$Policy" "whats" "[I" "CoverHouse") ∈ lw_tbl := lw_at lw_m7 34 rfl
theorem q1603 : (Jvm.Cond.fieldLinkNest "CoverHouse" (428 : Nat) "CoverHouse$Policy" "values" "[I" "CoverHouse") ∈ lw_tbl := lw_at lw_m7 36 rfl
theorem q1605 : (Jvm.Cond.fieldLinkNest "CoverHouse" (431 : Nat) "CoverHouse$Policy" "froms" "[I" "CoverHouse") ∈ lw_tbl := lw_at lw_m7 38 rfl
theorem q1607 : (Jvm.Cond.fieldLinkNest "CoverHouse" (434 : Nat) "CoverHouse$Policy" "knowns" "[I" "CoverHouse") ∈ lw_tbl := lw_at lw_m7 40 rfl
theorem q1609 : (Jvm.Cond.fieldLinkNest "CoverHouse" (424 : Nat) "CoverHouse$Policy" "size" "I" "CoverHouse") ∈ lw_tbl := lw_at lw_m7 42 rfl
theorem q1622 : (Jvm.Cond.instanceMethod ({ cls := "CoverHouse", name := "change", desc := "(IIIII)I" } : Jvm.MethodName)) ∈ lw_all := lw_g (lw_at lw_m7 55 rfl) rfl
theorem q1623 : (Jvm.Cond.selects "CoverHouse" ({ cls := "CoverHouse", name := "change", desc := "(IIIII)I" } : Jvm.MethodName) ({ cls := "CoverHouse", name := "change", desc := "(IIIII)I" } : Jvm.MethodName)) ∈ lw_all := lw_g (lw_at lw_m7 56 rfl) rfl
theorem q1624 : (Jvm.Cond.code ({ cls := "CoverHouse", name := "change", desc := "(IIIII)I" } : Jvm.MethodName) prog_1_method_34_code (7 : Nat) (Option.some Jvm.ClassFile.FieldType.int)) ∈ lw_all := lw_g (lw_at lw_m7 57 rfl) rfl
theorem q1625 : (Jvm.Cond.methodLink "CoverHouse" (420 : Nat) ({ cls := "CoverHouse", name := "isPolicy", desc := "(I)Z" } : Jvm.MethodName)) ∈ lw_all := lw_g (lw_at lw_m7 58 rfl) rfl
theorem q1626 : (Jvm.Cond.privateMethod ({ cls := "CoverHouse", name := "isPolicy", desc := "(I)Z" } : Jvm.MethodName)) ∈ lw_tbl := lw_at lw_m7 59 rfl
theorem q1627 : (Jvm.Cond.instanceMethod ({ cls := "CoverHouse", name := "isPolicy", desc := "(I)Z" } : Jvm.MethodName)) ∈ lw_all := lw_g (lw_at lw_m7 60 rfl) rfl
theorem q1628 : (Jvm.Cond.code ({ cls := "CoverHouse", name := "isPolicy", desc := "(I)Z" } : Jvm.MethodName) prog_1_method_33_code (2 : Nat) (Option.some Jvm.ClassFile.FieldType.boolean)) ∈ lw_all := lw_g (lw_at lw_m7 61 rfl) rfl
theorem q1629 : (Jvm.Cond.constant "CoverHouse" (423 : Nat) (99999999 : Int32)) ∈ lw_all := lw_g (lw_at lw_m7 62 rfl) rfl
theorem q1631 : (Jvm.Cond.instanceMethod ({ cls := "CoverHouse", name := "holds", desc := "(IIII)I" } : Jvm.MethodName)) ∈ lw_all := lw_g (lw_at lw_m7 64 rfl) rfl
theorem q1632 : (Jvm.Cond.selects "CoverHouse" ({ cls := "CoverHouse", name := "holds", desc := "(IIII)I" } : Jvm.MethodName) ({ cls := "CoverHouse", name := "holds", desc := "(IIII)I" } : Jvm.MethodName)) ∈ lw_all := lw_g (lw_at lw_m7 65 rfl) rfl
theorem q1633 : (Jvm.Cond.code ({ cls := "CoverHouse", name := "holds", desc := "(IIII)I" } : Jvm.MethodName) prog_1_method_35_code (5 : Nat) (Option.some Jvm.ClassFile.FieldType.int)) ∈ lw_all := lw_g (lw_at lw_m7 66 rfl) rfl
theorem q1634 : (Jvm.Cond.methodLink "CoverHouse" (437 : Nat) ({ cls := "CoverHouse$Policy", name := "on", desc := "(III)I" } : Jvm.MethodName)) ∈ lw_all := lw_g (lw_at lw_m7 67 rfl) rfl
theorem q1639 : (Jvm.Cond.instanceMethod ({ cls := "CoverHouse", name := "claim", desc := "(IIII)I" } : Jvm.MethodName)) ∈ lw_all := lw_g (lw_at lw_m7 72 rfl) rfl
theorem q1640 : (Jvm.Cond.selects "CoverHouse" ({ cls := "CoverHouse", name := "claim", desc := "(IIII)I" } : Jvm.MethodName) ({ cls := "CoverHouse", name := "claim", desc := "(IIII)I" } : Jvm.MethodName)) ∈ lw_all := lw_g (lw_at lw_m7 73 rfl) rfl
theorem q1641 : (Jvm.Cond.code ({ cls := "CoverHouse", name := "claim", desc := "(IIII)I" } : Jvm.MethodName) prog_1_method_36_code (5 : Nat) (Option.some Jvm.ClassFile.FieldType.int)) ∈ lw_all := lw_g (lw_at lw_m7 74 rfl) rfl
theorem q1642 : (Jvm.Cond.classLink "CoverHouse" (440 : Nat) "CoverHouse$Claim") ∈ lw_all := lw_g (lw_at lw_m7 75 rfl) rfl
theorem q1644 : (Jvm.Cond.methodLink "CoverHouse" (442 : Nat) ({ cls := "CoverHouse$Claim", name := "<init>", desc := "(ILCoverHouse$Event;II)V" } : Jvm.MethodName)) ∈ lw_all := lw_g (lw_at lw_m7 77 rfl) rfl
theorem q1651 : (Jvm.Cond.fieldLinkNest "CoverHouse" (452 : Nat) "CoverHouse$Claim" "policy" "I" "CoverHouse") ∈ lw_tbl := lw_at lw_m7 84 rfl
theorem q1653 : (Jvm.Cond.fieldLinkNest "CoverHouse" (469 : Nat) "CoverHouse$Claim" "event" "LCoverHouse$Event;" "CoverHouse") ∈ lw_tbl := lw_at lw_m7 86 rfl
theorem q1655 : (Jvm.Cond.fieldLinkNest "CoverHouse" (456 : Nat) "CoverHouse$Claim" "day" "I" "CoverHouse") ∈ lw_tbl := lw_at lw_m7 88 rfl
theorem q1657 : (Jvm.Cond.fieldLinkNest "CoverHouse" (455 : Nat) "CoverHouse$Claim" "known" "I" "CoverHouse") ∈ lw_tbl := lw_at lw_m7 90 rfl
theorem q1659 : (Jvm.Cond.fieldLinkNest "CoverHouse" (448 : Nat) "CoverHouse$Claim" "losses" "LCoverHouse$Known;" "CoverHouse") ∈ lw_tbl := lw_at lw_m7 92 rfl
theorem q1660 : (Jvm.Cond.fieldLinkNest "CoverHouse" (503 : Nat) "CoverHouse$Claim" "paid" "I" "CoverHouse") ∈ lw_tbl := lw_at lw_m7 93 rfl
theorem q1661 : (Jvm.Cond.fieldLinkNest "CoverHouse" (506 : Nat) "CoverHouse$Claim" "passed" "I" "CoverHouse") ∈ lw_tbl := lw_at lw_m7 94 rfl
theorem q1678 : (Jvm.Cond.instanceMethod ({ cls := "CoverHouse", name := "loss", desc := "(III)I" } : Jvm.MethodName)) ∈ lw_all := lw_g (lw_at lw_m7 111 rfl) rfl
theorem q1679 : (Jvm.Cond.selects "CoverHouse" ({ cls := "CoverHouse", name := "loss", desc := "(III)I" } : Jvm.MethodName) ({ cls := "CoverHouse", name := "loss", desc := "(III)I" } : Jvm.MethodName)) ∈ lw_all := lw_g (lw_at lw_m7 112 rfl) rfl
theorem q1680 : (Jvm.Cond.code ({ cls := "CoverHouse", name := "loss", desc := "(III)I" } : Jvm.MethodName) prog_1_method_38_code (5 : Nat) (Option.some Jvm.ClassFile.FieldType.int)) ∈ lw_all := lw_g (lw_at lw_m7 113 rfl) rfl
theorem q1681 : (Jvm.Cond.methodLink "CoverHouse" (445 : Nat) ({ cls := "CoverHouse", name := "isClaim", desc := "(I)Z" } : Jvm.MethodName)) ∈ lw_all := lw_g (lw_at lw_m7 114 rfl) rfl
theorem q1682 : (Jvm.Cond.privateMethod ({ cls := "CoverHouse", name := "isClaim", desc := "(I)Z" } : Jvm.MethodName)) ∈ lw_tbl := lw_at lw_m7 115 rfl
theorem q1683 : (Jvm.Cond.instanceMethod ({ cls := "CoverHouse", name := "isClaim", desc := "(I)Z" } : Jvm.MethodName)) ∈ lw_all := lw_g (lw_at lw_m7 116 rfl) rfl
theorem q1684 : (Jvm.Cond.code ({ cls := "CoverHouse", name := "isClaim", desc := "(I)Z" } : Jvm.MethodName) prog_1_method_37_code (2 : Nat) (Option.some Jvm.ClassFile.FieldType.boolean)) ∈ lw_all := lw_g (lw_at lw_m7 117 rfl) rfl
theorem q1686 : (Jvm.Cond.instanceMethod ({ cls := "CoverHouse", name := "pay", desc := "(II)I" } : Jvm.MethodName)) ∈ lw_all := lw_g (lw_at lw_m7 119 rfl) rfl
theorem q1687 : (Jvm.Cond.selects "CoverHouse" ({ cls := "CoverHouse", name := "pay", desc := "(II)I" } : Jvm.MethodName) ({ cls := "CoverHouse", name := "pay", desc := "(II)I" } : Jvm.MethodName)) ∈ lw_all := lw_g (lw_at lw_m7 120 rfl) rfl
theorem q1688 : (Jvm.Cond.code ({ cls := "CoverHouse", name := "pay", desc := "(II)I" } : Jvm.MethodName) prog_1_method_43_code (3 : Nat) (Option.some Jvm.ClassFile.FieldType.int)) ∈ lw_all := lw_g (lw_at lw_m7 121 rfl) rfl
theorem q1689 : (Jvm.Cond.methodLink "CoverHouse" (479 : Nat) ({ cls := "CoverHouse", name := "payAll", desc := "(II)V" } : Jvm.MethodName)) ∈ lw_all := lw_g (lw_at lw_m7 122 rfl) rfl
theorem q1690 : (Jvm.Cond.privateMethod ({ cls := "CoverHouse", name := "payAll", desc := "(II)V" } : Jvm.MethodName)) ∈ lw_tbl := lw_at lw_m7 123 rfl
theorem q1691 : (Jvm.Cond.instanceMethod ({ cls := "CoverHouse", name := "payAll", desc := "(II)V" } : Jvm.MethodName)) ∈ lw_all := lw_g (lw_at lw_m7 124 rfl) rfl
theorem q1692 : (Jvm.Cond.code ({ cls := "CoverHouse", name := "payAll", desc := "(II)V" } : Jvm.MethodName) prog_1_method_40_code (12 : Nat) (Option.none : Option Jvm.ClassFile.FieldType)) ∈ lw_all := lw_g (lw_at lw_m7 125 rfl) rfl
theorem q1693 : (Jvm.Cond.methodLink "CoverHouse" (459 : Nat) ({ cls := "CoverHouse", name := "walk", desc := "(II)I" } : Jvm.MethodName)) ∈ lw_all := lw_g (lw_at lw_m7 126 rfl) rfl
theorem q1694 : (Jvm.Cond.privateMethod ({ cls := "CoverHouse", name := "walk", desc := "(II)I" } : Jvm.MethodName)) ∈ lw_tbl := lw_at lw_m7 127 rfl
theorem q1695 : (Jvm.Cond.instanceMethod ({ cls := "CoverHouse", name := "walk", desc := "(II)I" } : Jvm.MethodName)) ∈ lw_all := lw_g (lw_at lw_m7 128 rfl) rfl
theorem q1696 : (Jvm.Cond.code ({ cls := "CoverHouse", name := "walk", desc := "(II)I" } : Jvm.MethodName) prog_1_method_39_code (7 : Nat) (Option.some Jvm.ClassFile.FieldType.int)) ∈ lw_all := lw_g (lw_at lw_m7 129 rfl) rfl
theorem q1697 : (Jvm.Cond.methodLink "CoverHouse" (462 : Nat) ({ cls := "CoverHouse", name := "worth", desc := "(LCoverHouse$Claim;LCoverHouse$Policy;IJJ)J" } : Jvm.MethodName)) ∈ lw_all := lw_g (lw_at lw_m7 130 rfl) rfl
theorem q1698 : (Jvm.Cond.privateMethod ({ cls := "CoverHouse", name := "worth", desc := "(LCoverHouse$Claim;LCoverHouse$Policy;IJJ)J" } : Jvm.MethodName)) ∈ lw_tbl := lw_at lw_m7 131 rfl
theorem q1699 : (Jvm.Cond.instanceMethod ({ cls := "CoverHouse", name := "worth", desc := "(LCoverHouse$Claim;LCoverHouse$Policy;IJJ)J" } : Jvm.MethodName)) ∈ lw_all := lw_g (lw_at lw_m7 132 rfl) rfl
theorem q1700 : (Jvm.Cond.code ({ cls := "CoverHouse", name := "worth", desc := "(LCoverHouse$Claim;LCoverHouse$Policy;IJJ)J" } : Jvm.MethodName) prog_1_method_42_code (12 : Nat) (Option.some Jvm.ClassFile.FieldType.long)) ∈ lw_all := lw_g (lw_at lw_m7 133 rfl) rfl
theorem q1701 : (Jvm.Cond.methodLink "CoverHouse" (473 : Nat) ({ cls := "java/lang/Math", name := "max", desc := "(II)I" } : Jvm.MethodName)) ∈ lw_all := lw_g (lw_at lw_m7 134 rfl) rfl
theorem q1702 : (Jvm.Cond.methodLink "CoverHouse" (475 : Nat) ({ cls := "CoverHouse", name := "bounded", desc := "(JIJ)J" } : Jvm.MethodName)) ∈ lw_all := lw_g (lw_at lw_m7 135 rfl) rfl
theorem q1703 : (Jvm.Cond.static ({ cls := "CoverHouse", name := "bounded", desc := "(JIJ)J" } : Jvm.MethodName)) ∈ lw_all := lw_g (lw_at lw_m7 136 rfl) rfl
theorem q1704 : (Jvm.Cond.code ({ cls := "CoverHouse", name := "bounded", desc := "(JIJ)J" } : Jvm.MethodName) prog_1_method_41_code (5 : Nat) (Option.some Jvm.ClassFile.FieldType.long)) ∈ lw_all := lw_g (lw_at lw_m7 137 rfl) rfl
theorem q1705 : (Jvm.Cond.methodLink "CoverHouse" (466 : Nat) ({ cls := "java/lang/Math", name := "min", desc := "(JJ)J" } : Jvm.MethodName)) ∈ lw_all := lw_g (lw_at lw_m7 138 rfl) rfl
theorem q1707 : (Jvm.Cond.instanceMethod ({ cls := "CoverHouse", name := "used", desc := "(III)J" } : Jvm.MethodName)) ∈ lw_all := lw_g (lw_at lw_m7 140 rfl) rfl
theorem q1708 : (Jvm.Cond.selects "CoverHouse" ({ cls := "CoverHouse", name := "used", desc := "(III)J" } : Jvm.MethodName) ({ cls := "CoverHouse", name := "used", desc := "(III)J" } : Jvm.MethodName)) ∈ lw_all := lw_g (lw_at lw_m7 141 rfl) rfl
theorem q1709 : (Jvm.Cond.code ({ cls := "CoverHouse", name := "used", desc := "(III)J" } : Jvm.MethodName) prog_1_method_44_code (8 : Nat) (Option.some Jvm.ClassFile.FieldType.long)) ∈ lw_all := lw_g (lw_at lw_m7 142 rfl) rfl
theorem q1710 : (Jvm.Cond.constantLong "CoverHouse" (482 : Nat) (-1 : Int64)) ∈ lw_all := lw_g (lw_at lw_m7 143 rfl) rfl
theorem q1711 : (Jvm.Cond.constantLong "CoverHouse" (484 : Nat) (-2 : Int64)) ∈ lw_all := lw_g (lw_at lw_m7 144 rfl) rfl
theorem q1713 : (Jvm.Cond.instanceMethod ({ cls := "CoverHouse", name := "treaty", desc := "(III)I" } : Jvm.MethodName)) ∈ lw_all := lw_g (lw_at lw_m7 146 rfl) rfl
theorem q1714 : (Jvm.Cond.selects "CoverHouse" ({ cls := "CoverHouse", name := "treaty", desc := "(III)I" } : Jvm.MethodName) ({ cls := "CoverHouse", name := "treaty", desc := "(III)I" } : Jvm.MethodName)) ∈ lw_all := lw_g (lw_at lw_m7 147 rfl) rfl
theorem q1715 : (Jvm.Cond.code ({ cls := "CoverHouse", name := "treaty", desc := "(III)I" } : Jvm.MethodName) prog_1_method_45_code (4 : Nat) (Option.some Jvm.ClassFile.FieldType.int)) ∈ lw_all := lw_g (lw_at lw_m7 148 rfl) rfl
theorem q1717 : (Jvm.Cond.instanceMethod ({ cls := "CoverHouse", name := "ceded", desc := "(III)I" } : Jvm.MethodName)) ∈ lw_all := lw_g (lw_at lw_m7 150 rfl) rfl
theorem q1718 : (Jvm.Cond.selects "CoverHouse" ({ cls := "CoverHouse", name := "ceded", desc := "(III)I" } : Jvm.MethodName) ({ cls := "CoverHouse", name := "ceded", desc := "(III)I" } : Jvm.MethodName)) ∈ lw_all := lw_g (lw_at lw_m7 151 rfl) rfl
theorem q1719 : (Jvm.Cond.code ({ cls := "CoverHouse", name := "ceded", desc := "(III)I" } : Jvm.MethodName) prog_1_method_47_code (5 : Nat) (Option.some Jvm.ClassFile.FieldType.int)) ∈ lw_all := lw_g (lw_at lw_m7 152 rfl) rfl
theorem q1720 : (Jvm.Cond.methodLink "CoverHouse" (491 : Nat) ({ cls := "CoverHouse", name := "pay", desc := "(II)I" } : Jvm.MethodName)) ∈ lw_all := lw_g (lw_at lw_m7 153 rfl) rfl
theorem q1721 : (Jvm.Cond.methodLink "CoverHouse" (494 : Nat) ({ cls := "CoverHouse", name := "taken", desc := "(II)I" } : Jvm.MethodName)) ∈ lw_all := lw_g (lw_at lw_m7 154 rfl) rfl
theorem q1722 : (Jvm.Cond.privateMethod ({ cls := "CoverHouse", name := "taken", desc := "(II)I" } : Jvm.MethodName)) ∈ lw_tbl := lw_at lw_m7 155 rfl
theorem q1723 : (Jvm.Cond.instanceMethod ({ cls := "CoverHouse", name := "taken", desc := "(II)I" } : Jvm.MethodName)) ∈ lw_all := lw_g (lw_at lw_m7 156 rfl) rfl
theorem q1724 : (Jvm.Cond.code ({ cls := "CoverHouse", name := "taken", desc := "(II)I" } : Jvm.MethodName) prog_1_method_46_code (7 : Nat) (Option.some Jvm.ClassFile.FieldType.int)) ∈ lw_all := lw_g (lw_at lw_m7 157 rfl) rfl
theorem q1725 : (Jvm.Cond.methodLink "CoverHouse" (489 : Nat) ({ cls := "java/lang/Math", name := "min", desc := "(II)I" } : Jvm.MethodName)) ∈ lw_all := lw_g (lw_at lw_m7 158 rfl) rfl
theorem q1727 : (Jvm.Cond.instanceMethod ({ cls := "CoverHouse", name := "close", desc := "(I)I" } : Jvm.MethodName)) ∈ lw_all := lw_g (lw_at lw_m7 160 rfl) rfl
theorem q1728 : (Jvm.Cond.selects "CoverHouse" ({ cls := "CoverHouse", name := "close", desc := "(I)I" } : Jvm.MethodName) ({ cls := "CoverHouse", name := "close", desc := "(I)I" } : Jvm.MethodName)) ∈ lw_all := lw_g (lw_at lw_m7 161 rfl) rfl
theorem q1729 : (Jvm.Cond.code ({ cls := "CoverHouse", name := "close", desc := "(I)I" } : Jvm.MethodName) prog_1_method_49_code (7 : Nat) (Option.some Jvm.ClassFile.FieldType.int)) ∈ lw_all := lw_g (lw_at lw_m7 162 rfl) rfl
theorem q1730 : (Jvm.Cond.methodLink "CoverHouse" (509 : Nat) ({ cls := "CoverHouse", name := "book", desc := "(IIII)V" } : Jvm.MethodName)) ∈ lw_all := lw_g (lw_at lw_m7 163 rfl) rfl
theorem q1731 : (Jvm.Cond.privateMethod ({ cls := "CoverHouse", name := "book", desc := "(IIII)V" } : Jvm.MethodName)) ∈ lw_tbl := lw_at lw_m7 164 rfl
theorem q1732 : (Jvm.Cond.instanceMethod ({ cls := "CoverHouse", name := "book", desc := "(IIII)V" } : Jvm.MethodName)) ∈ lw_all := lw_g (lw_at lw_m7 165 rfl) rfl
theorem q1733 : (Jvm.Cond.code ({ cls := "CoverHouse", name := "book", desc := "(IIII)V" } : Jvm.MethodName) prog_1_method_48_code (5 : Nat) (Option.none : Option Jvm.ClassFile.FieldType)) ∈ lw_all := lw_g (lw_at lw_m7 166 rfl) rfl
theorem q1735 : (Jvm.Cond.instanceMethod ({ cls := "CoverHouse", name := "row", desc := "(II)I" } : Jvm.MethodName)) ∈ lw_all := lw_g (lw_at lw_m7 168 rfl) rfl
theorem q1736 : (Jvm.Cond.selects "CoverHouse" ({ cls := "CoverHouse", name := "row", desc := "(II)I" } : Jvm.MethodName) ({ cls := "CoverHouse", name := "row", desc := "(II)I" } : Jvm.MethodName)) ∈ lw_all := lw_g (lw_at lw_m7 169 rfl) rfl
theorem q1737 : (Jvm.Cond.code ({ cls := "CoverHouse", name := "row", desc := "(II)I" } : Jvm.MethodName) prog_1_method_50_code (3 : Nat) (Option.some Jvm.ClassFile.FieldType.int)) ∈ lw_all := lw_g (lw_at lw_m7 170 rfl) rfl
theorem q1739 : (Jvm.Cond.instanceMethod ({ cls := "CoverHouse", name := "balance", desc := "(I)J" } : Jvm.MethodName)) ∈ lw_all := lw_g (lw_at lw_m7 172 rfl) rfl
theorem q1740 : (Jvm.Cond.selects "CoverHouse" ({ cls := "CoverHouse", name := "balance", desc := "(I)J" } : Jvm.MethodName) ({ cls := "CoverHouse", name := "balance", desc := "(I)J" } : Jvm.MethodName)) ∈ lw_all := lw_g (lw_at lw_m7 173 rfl) rfl
theorem q1741 : (Jvm.Cond.code ({ cls := "CoverHouse", name := "balance", desc := "(I)J" } : Jvm.MethodName) prog_1_method_51_code (5 : Nat) (Option.some Jvm.ClassFile.FieldType.long)) ∈ lw_all := lw_g (lw_at lw_m7 174 rfl) rfl
theorem q1743 : (Jvm.Cond.instanceMethod ({ cls := "CoverHouse", name := "paid", desc := "(II)J" } : Jvm.MethodName)) ∈ lw_all := lw_g (lw_at lw_m7 176 rfl) rfl
theorem q1744 : (Jvm.Cond.selects "CoverHouse" ({ cls := "CoverHouse", name := "paid", desc := "(II)J" } : Jvm.MethodName) ({ cls := "CoverHouse", name := "paid", desc := "(II)J" } : Jvm.MethodName)) ∈ lw_all := lw_g (lw_at lw_m7 177 rfl) rfl
theorem q1745 : (Jvm.Cond.code ({ cls := "CoverHouse", name := "paid", desc := "(II)J" } : Jvm.MethodName) prog_1_method_53_code (3 : Nat) (Option.some Jvm.ClassFile.FieldType.long)) ∈ lw_all := lw_g (lw_at lw_m7 178 rfl) rfl
theorem q1746 : (Jvm.Cond.methodLink "CoverHouse" (513 : Nat) ({ cls := "CoverHouse", name := "gridAt", desc := "(II)J" } : Jvm.MethodName)) ∈ lw_all := lw_g (lw_at lw_m7 179 rfl) rfl
theorem q1747 : (Jvm.Cond.privateMethod ({ cls := "CoverHouse", name := "gridAt", desc := "(II)J" } : Jvm.MethodName)) ∈ lw_tbl := lw_at lw_m7 180 rfl
theorem q1748 : (Jvm.Cond.instanceMethod ({ cls := "CoverHouse", name := "gridAt", desc := "(II)J" } : Jvm.MethodName)) ∈ lw_all := lw_g (lw_at lw_m7 181 rfl) rfl
theorem q1749 : (Jvm.Cond.code ({ cls := "CoverHouse", name := "gridAt", desc := "(II)J" } : Jvm.MethodName) prog_1_method_52_code (7 : Nat) (Option.some Jvm.ClassFile.FieldType.long)) ∈ lw_all := lw_g (lw_at lw_m7 182 rfl) rfl
theorem q1751 : (Jvm.Cond.instanceMethod ({ cls := "CoverHouse", name := "end", desc := "(II)J" } : Jvm.MethodName)) ∈ lw_all := lw_g (lw_at lw_m7 184 rfl) rfl
theorem q1752 : (Jvm.Cond.selects "CoverHouse" ({ cls := "CoverHouse", name := "end", desc := "(II)J" } : Jvm.MethodName) ({ cls := "CoverHouse", name := "end", desc := "(II)J" } : Jvm.MethodName)) ∈ lw_all := lw_g (lw_at lw_m7 185 rfl) rfl
theorem q1753 : (Jvm.Cond.code ({ cls := "CoverHouse", name := "end", desc := "(II)J" } : Jvm.MethodName) prog_1_method_54_code (11 : Nat) (Option.some Jvm.ClassFile.FieldType.long)) ∈ lw_all := lw_g (lw_at lw_m7 186 rfl) rfl
theorem q1754 : (Jvm.Cond.constantLong "CoverHouse" (517 : Nat) (2000000000 : Int64)) ∈ lw_all := lw_g (lw_at lw_m7 187 rfl) rfl
theorem q1756 : (Jvm.Cond.instanceMethod ({ cls := "CoverHouse", name := "size", desc := "(II)I" } : Jvm.MethodName)) ∈ lw_all := lw_g (lw_at lw_m7 189 rfl) rfl
theorem q1757 : (Jvm.Cond.selects "CoverHouse" ({ cls := "CoverHouse", name := "size", desc := "(II)I" } : Jvm.MethodName) ({ cls := "CoverHouse", name := "size", desc := "(II)I" } : Jvm.MethodName)) ∈ lw_all := lw_g (lw_at lw_m7 190 rfl) rfl
theorem q1758 : (Jvm.Cond.code ({ cls := "CoverHouse", name := "size", desc := "(II)I" } : Jvm.MethodName) prog_1_method_55_code (4 : Nat) (Option.some Jvm.ClassFile.FieldType.int)) ∈ lw_all := lw_g (lw_at lw_m7 191 rfl) rfl
theorem q1760 : (Jvm.Cond.instanceMethod ({ cls := "CoverHouse", name := "count", desc := "(II)I" } : Jvm.MethodName)) ∈ lw_all := lw_g (lw_at lw_m7 193 rfl) rfl
theorem q1761 : (Jvm.Cond.selects "CoverHouse" ({ cls := "CoverHouse", name := "count", desc := "(II)I" } : Jvm.MethodName) ({ cls := "CoverHouse", name := "count", desc := "(II)I" } : Jvm.MethodName)) ∈ lw_all := lw_g (lw_at lw_m7 194 rfl) rfl
theorem q1762 : (Jvm.Cond.code ({ cls := "CoverHouse", name := "count", desc := "(II)I" } : Jvm.MethodName) prog_1_method_56_code (4 : Nat) (Option.some Jvm.ClassFile.FieldType.int)) ∈ lw_all := lw_g (lw_at lw_m7 195 rfl) rfl
theorem q1764 : (Jvm.Cond.instanceMethod ({ cls := "CoverHouse", name := "mass", desc := "(I)J" } : Jvm.MethodName)) ∈ lw_all := lw_g (lw_at lw_m7 197 rfl) rfl
theorem q1765 : (Jvm.Cond.selects "CoverHouse" ({ cls := "CoverHouse", name := "mass", desc := "(I)J" } : Jvm.MethodName) ({ cls := "CoverHouse", name := "mass", desc := "(I)J" } : Jvm.MethodName)) ∈ lw_all := lw_g (lw_at lw_m7 198 rfl) rfl
theorem q1766 : (Jvm.Cond.code ({ cls := "CoverHouse", name := "mass", desc := "(I)J" } : Jvm.MethodName) prog_1_method_59_code (5 : Nat) (Option.some Jvm.ClassFile.FieldType.long)) ∈ lw_all := lw_g (lw_at lw_m7 199 rfl) rfl
theorem q1767 : (Jvm.Cond.methodLink "CoverHouse" (528 : Nat) ({ cls := "CoverHouse", name := "findMasses", desc := "()V" } : Jvm.MethodName)) ∈ lw_all := lw_g (lw_at lw_m7 200 rfl) rfl
theorem q1768 : (Jvm.Cond.privateMethod ({ cls := "CoverHouse", name := "findMasses", desc := "()V" } : Jvm.MethodName)) ∈ lw_tbl := lw_at lw_m7 201 rfl
theorem q1769 : (Jvm.Cond.instanceMethod ({ cls := "CoverHouse", name := "findMasses", desc := "()V" } : Jvm.MethodName)) ∈ lw_all := lw_g (lw_at lw_m7 202 rfl) rfl
theorem q1770 : (Jvm.Cond.code ({ cls := "CoverHouse", name := "findMasses", desc := "()V" } : Jvm.MethodName) prog_1_method_58_code (5 : Nat) (Option.none : Option Jvm.ClassFile.FieldType)) ∈ lw_all := lw_g (lw_at lw_m7 203 rfl) rfl
theorem q1771 : (Jvm.Cond.methodLink "CoverHouse" (525 : Nat) ({ cls := "CoverHouse", name := "fold", desc := "()V" } : Jvm.MethodName)) ∈ lw_all := lw_g (lw_at lw_m7 204 rfl) rfl
theorem q1772 : (Jvm.Cond.privateMethod ({ cls := "CoverHouse", name := "fold", desc := "()V" } : Jvm.MethodName)) ∈ lw_tbl := lw_at lw_m7 205 rfl
theorem q1773 : (Jvm.Cond.instanceMethod ({ cls := "CoverHouse", name := "fold", desc := "()V" } : Jvm.MethodName)) ∈ lw_all := lw_g (lw_at lw_m7 206 rfl) rfl
theorem q1774 : (Jvm.Cond.code ({ cls := "CoverHouse", name := "fold", desc := "()V" } : Jvm.MethodName) prog_1_method_57_code (3 : Nat) (Option.none : Option Jvm.ClassFile.FieldType)) ∈ lw_all := lw_g (lw_at lw_m7 207 rfl) rfl
theorem q1776 : (Jvm.Cond.instanceMethod ({ cls := "CoverHouse", name := "quantile", desc := "(II)I" } : Jvm.MethodName)) ∈ lw_all := lw_g (lw_at lw_m7 209 rfl) rfl
theorem q1777 : (Jvm.Cond.selects "CoverHouse" ({ cls := "CoverHouse", name := "quantile", desc := "(II)I" } : Jvm.MethodName) ({ cls := "CoverHouse", name := "quantile", desc := "(II)I" } : Jvm.MethodName)) ∈ lw_all := lw_g (lw_at lw_m7 210 rfl) rfl
theorem q1778 : (Jvm.Cond.code ({ cls := "CoverHouse", name := "quantile", desc := "(II)I" } : Jvm.MethodName) prog_1_method_60_code (8 : Nat) (Option.some Jvm.ClassFile.FieldType.int)) ∈ lw_all := lw_g (lw_at lw_m7 211 rfl) rfl
theorem q1779 : (Jvm.Cond.methodLink "CoverHouse" (531 : Nat) ({ cls := "CoverHouse", name := "mass", desc := "(I)J" } : Jvm.MethodName)) ∈ lw_all := lw_g (lw_at lw_m7 212 rfl) rfl
theorem q1781 : (Jvm.Cond.instanceMethod ({ cls := "CoverHouse", name := "beyond", desc := "(I)J" } : Jvm.MethodName)) ∈ lw_all := lw_g (lw_at lw_m7 214 rfl) rfl
theorem q1782 : (Jvm.Cond.selects "CoverHouse" ({ cls := "CoverHouse", name := "beyond", desc := "(I)J" } : Jvm.MethodName) ({ cls := "CoverHouse", name := "beyond", desc := "(I)J" } : Jvm.MethodName)) ∈ lw_all := lw_g (lw_at lw_m7 215 rfl) rfl
theorem q1783 : (Jvm.Cond.code ({ cls := "CoverHouse", name := "beyond", desc := "(I)J" } : Jvm.MethodName) prog_1_method_61_code (5 : Nat) (Option.some Jvm.ClassFile.FieldType.long)) ∈ lw_all := lw_g (lw_at lw_m7 216 rfl) rfl
theorem q1785 : (Jvm.Cond.instanceMethod ({ cls := "CoverHouse", name := "told", desc := "(I)I" } : Jvm.MethodName)) ∈ lw_all := lw_g (lw_at lw_m7 218 rfl) rfl
theorem q1786 : (Jvm.Cond.selects "CoverHouse" ({ cls := "CoverHouse", name := "told", desc := "(I)I" } : Jvm.MethodName) ({ cls := "CoverHouse", name := "told", desc := "(I)I" } : Jvm.MethodName)) ∈ lw_all := lw_g (lw_at lw_m7 219 rfl) rfl
theorem q1787 : (Jvm.Cond.code ({ cls := "CoverHouse", name := "told", desc := "(I)I" } : Jvm.MethodName) prog_1_method_62_code (2 : Nat) (Option.some Jvm.ClassFile.FieldType.int)) ∈ lw_all := lw_g (lw_at lw_m7 220 rfl) rfl
theorem q2689 : (Jvm.Cond.castable "CoverHouse" "java/lang/Object") ∈ lw_tbl := lw_at lw_m11 162 rfl
theorem in_X0 : ∀ w ∈ wsX00, w ∈ lw_all := lw_in wsX00 [477, 479, 481, 483, 485, 487, 489, 491, 493, 495, 497, 499, 501, 503, 505, 507, 509, 511, 513, 515, 517, 519, 521, 523, 525, 527, 529, 531, 533, 535, 537, 539] (by decide +kernel) (by decide +kernel)
