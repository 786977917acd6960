/-! CoverHouse$Reader -/
set_option maxRecDepth 100000
def RX7 : String := "CoverHouse$Reader"
def TX7 : u_T := fun k => match k with
  | 0 => ("CoverHouse$Reader", "at", "I", false)
  | 1 => ("CoverHouse$Reader", "kind", "I", false)
  | 2 => ("CoverHouse$Reader", "from", "I", false)
  | 3 => ("CoverHouse$Reader", "name", "J", false)
  | 4 => ("CoverHouse$Reader", "value", "I", false)
  | 5 => ("CoverHouse$Reader", "sign", "I", false)
  | 6 => ("CoverHouse$Reader", "into", "LCoverHouse$Wording;", false)
  | 7 => ("CoverHouse$Reader", "depth", "I", false)
  | 8 => ("CoverHouse$Reader", "nodes", "I", false)
  | 9 => ("CoverHouse$Reader", "mostNodes", "I", false)
  | _ => ("CoverHouse$Reader", "this$0", "LCoverHouse;", true)
def tyX7 : Nat → FieldType := fun k => match k with
  | 0 => .int
  | 1 => .int
  | 2 => .int
  | 3 => .long
  | 4 => .int
  | 5 => .int
  | 6 => .object "CoverHouse$Wording"
  | 7 => .int
  | 8 => .int
  | 9 => .int
  | _ => .object "CoverHouse"
abbrev wsX70 : List Cond := u_ws RX7 TX7 11
theorem nmX7 : ∀ a, a < 11 → ∀ b, b < 11 → a ≠ b → (TX7 a).2.1 ≠ (TX7 b).2.1 := by decide +kernel
theorem tyX7_ok : ∀ k, k < 11 → parseFieldDescriptor (TX7 k).2.2.1 = some (tyX7 k) := by decide +kernel
abbrev cX7_init : ByteArray := prog_18_method_1_code
def yX7_init : MethodName := ⟨RX7, "<init>", "(LCoverHouse;LCoverHouse$Wording;I)V"⟩
def dkwX7_init_0 : List UInt8 := [42, 43, 181, 0, 3, 42, 183, 0, 9, 42, 44, 181, 0, 15, 42, 29, 181, 0, 19, 42, 182, 0, 23, 177]
abbrev dktX7_init_0 : List UInt8 := dkwX7_init_0 ++ []
theorem dksX7_init_0 : cX7_init.data.toList.drop 0 = dktX7_init_0 := by decide +kernel
theorem dX7_init_0 : decode cX7_init 0 = .ok (.aload_n 0, 1) := dk_42 (dk_at dksX7_init_0 0 rfl rfl)
theorem dX7_init_1 : decode cX7_init 1 = .ok (.aload_n 1, 1) := dk_43 (dk_at dksX7_init_0 1 rfl rfl)
theorem dX7_init_2 : decode cX7_init 2 = .ok (.putfield 3, 3) := dk_181 0 3 (dk_at dksX7_init_0 2 rfl rfl)
theorem dX7_init_5 : decode cX7_init 5 = .ok (.aload_n 0, 1) := dk_42 (dk_at dksX7_init_0 5 rfl rfl)
theorem dX7_init_6 : decode cX7_init 6 = .ok (.invokespecial 9, 3) := dk_183 0 9 (dk_at dksX7_init_0 6 rfl rfl)
theorem dX7_init_9 : decode cX7_init 9 = .ok (.aload_n 0, 1) := dk_42 (dk_at dksX7_init_0 9 rfl rfl)
theorem dX7_init_10 : decode cX7_init 10 = .ok (.aload_n 2, 1) := dk_44 (dk_at dksX7_init_0 10 rfl rfl)
theorem dX7_init_11 : decode cX7_init 11 = .ok (.putfield 15, 3) := dk_181 0 15 (dk_at dksX7_init_0 11 rfl rfl)
theorem dX7_init_14 : decode cX7_init 14 = .ok (.aload_n 0, 1) := dk_42 (dk_at dksX7_init_0 14 rfl rfl)
theorem dX7_init_15 : decode cX7_init 15 = .ok (.iload_n 3, 1) := dk_29 (dk_at dksX7_init_0 15 rfl rfl)
theorem dX7_init_16 : decode cX7_init 16 = .ok (.putfield 19, 3) := dk_181 0 19 (dk_at dksX7_init_0 16 rfl rfl)
theorem dX7_init_19 : decode cX7_init 19 = .ok (.aload_n 0, 1) := dk_42 (dk_at dksX7_init_0 19 rfl rfl)
theorem dX7_init_20 : decode cX7_init 20 = .ok (.invokevirtual 23, 3) := dk_182 0 23 (dk_at dksX7_init_0 20 rfl rfl)
theorem dX7_init_23 : decode cX7_init 23 = .ok (.return_, 1) := dk_177 (dk_at dksX7_init_0 23 rfl rfl)
abbrev cX7_next : ByteArray := prog_18_method_6_code
def yX7_next : MethodName := ⟨RX7, "next", "()V"⟩
def dkwX7_next_12 : List UInt8 := [182, 0, 72, 177]
abbrev dktX7_next_12 : List UInt8 := dkwX7_next_12 ++ []
def dkwX7_next_11 : List UInt8 := [180, 0, 43, 100, 16, 9, 164, 0, 21, 187, 0, 60, 89, 4, 42, 180, 0, 43, 183, 0, 62, 191, 42, 27]
abbrev dktX7_next_11 : List UInt8 := dkwX7_next_11 ++ dktX7_next_12
def dkwX7_next_10 : List UInt8 := [180, 0, 69, 181, 0, 69, 42, 89, 180, 0, 33, 4, 96, 181, 0, 33, 167, 255, 187, 42, 180, 0, 33, 42]
abbrev dktX7_next_10 : List UInt8 := dkwX7_next_10 ++ dktX7_next_11
def dkwX7_next_9 : List UInt8 := [16, 10, 42, 180, 0, 69, 104, 42, 42, 180, 0, 33, 182, 0, 36, 96, 16, 48, 100, 167, 0, 7, 42]
abbrev dktX7_next_9 : List UInt8 := dkwX7_next_9 ++ dktX7_next_10
def dkwX7_next_8 : List UInt8 := [182, 0, 36, 182, 0, 57, 153, 0, 60, 42, 42, 180, 0, 33, 42, 180, 0, 43, 100, 16, 9, 162, 0, 25]
abbrev dktX7_next_8 : List UInt8 := dkwX7_next_8 ++ dktX7_next_9
def dkwX7_next_7 : List UInt8 := [182, 0, 57, 153, 0, 112, 42, 5, 181, 0, 46, 42, 3, 181, 0, 69, 42, 42, 42, 180, 0, 33]
abbrev dktX7_next_7 : List UInt8 := dkwX7_next_7 ++ dktX7_next_8
def dkwX7_next_6 : List UInt8 := [180, 0, 53, 182, 0, 65, 153, 0, 7, 7, 167, 0, 4, 4, 181, 0, 46, 167, 0, 125, 42, 27]
abbrev dktX7_next_6 : List UInt8 := dkwX7_next_6 ++ dktX7_next_7
def dkwX7_next_5 : List UInt8 := [16, 8, 164, 0, 16, 187, 0, 60, 89, 4, 42, 180, 0, 43, 183, 0, 62, 191, 42, 42, 180, 0, 3, 42]
abbrev dktX7_next_5 : List UInt8 := dkwX7_next_5 ++ dktX7_next_6
def dkwX7_next_4 : List UInt8 := [181, 0, 33, 182, 0, 36, 133, 129, 181, 0, 53, 167, 255, 198, 42, 180, 0, 33, 42, 180, 0, 43, 100]
abbrev dktX7_next_4 : List UInt8 := dkwX7_next_4 ++ dktX7_next_5
def dkwX7_next_3 : List UInt8 := [182, 0, 57, 153, 0, 34, 42, 42, 180, 0, 53, 16, 8, 121, 42, 42, 89, 180, 0, 33, 90, 4, 96]
abbrev dktX7_next_3 : List UInt8 := dkwX7_next_3 ++ dktX7_next_4
def dkwX7_next_2 : List UInt8 := [42, 42, 42, 180, 0, 33, 182, 0, 36, 182, 0, 49, 154, 0, 18, 42, 42, 42, 180, 0, 33, 182, 0, 36]
abbrev dktX7_next_2 : List UInt8 := dkwX7_next_2 ++ dktX7_next_3
def dkwX7_next_1 : List UInt8 := [156, 0, 11, 42, 3, 181, 0, 46, 167, 0, 252, 42, 27, 182, 0, 49, 153, 0, 122, 42, 9, 181, 0, 53]
abbrev dktX7_next_1 : List UInt8 := dkwX7_next_1 ++ dktX7_next_2
def dkwX7_next_0 : List UInt8 := [42, 182, 0, 40, 42, 42, 180, 0, 33, 181, 0, 43, 42, 42, 180, 0, 33, 182, 0, 36, 60, 27]
abbrev dktX7_next_0 : List UInt8 := dkwX7_next_0 ++ dktX7_next_1
theorem dksX7_next_0 : cX7_next.data.toList.drop 0 = dktX7_next_0 := by decide +kernel
theorem dksX7_next_1 : cX7_next.data.toList.drop 22 = dktX7_next_1 := dk_seg dksX7_next_0 22 rfl rfl
theorem dksX7_next_2 : cX7_next.data.toList.drop 46 = dktX7_next_2 := dk_seg dksX7_next_1 24 rfl rfl
theorem dksX7_next_3 : cX7_next.data.toList.drop 70 = dktX7_next_3 := dk_seg dksX7_next_2 24 rfl rfl
theorem dksX7_next_4 : cX7_next.data.toList.drop 93 = dktX7_next_4 := dk_seg dksX7_next_3 23 rfl rfl
theorem dksX7_next_5 : cX7_next.data.toList.drop 116 = dktX7_next_5 := dk_seg dksX7_next_4 23 rfl rfl
theorem dksX7_next_6 : cX7_next.data.toList.drop 140 = dktX7_next_6 := dk_seg dksX7_next_5 24 rfl rfl
theorem dksX7_next_7 : cX7_next.data.toList.drop 162 = dktX7_next_7 := dk_seg dksX7_next_6 22 rfl rfl
theorem dksX7_next_8 : cX7_next.data.toList.drop 184 = dktX7_next_8 := dk_seg dksX7_next_7 22 rfl rfl
theorem dksX7_next_9 : cX7_next.data.toList.drop 208 = dktX7_next_9 := dk_seg dksX7_next_8 24 rfl rfl
theorem dksX7_next_10 : cX7_next.data.toList.drop 231 = dktX7_next_10 := dk_seg dksX7_next_9 23 rfl rfl
theorem dksX7_next_11 : cX7_next.data.toList.drop 255 = dktX7_next_11 := dk_seg dksX7_next_10 24 rfl rfl
theorem dksX7_next_12 : cX7_next.data.toList.drop 279 = dktX7_next_12 := dk_seg dksX7_next_11 24 rfl rfl
theorem dX7_next_0 : decode cX7_next 0 = .ok (.aload_n 0, 1) := dk_42 (dk_at dksX7_next_0 0 rfl rfl)
theorem dX7_next_1 : decode cX7_next 1 = .ok (.invokevirtual 40, 3) := dk_182 0 40 (dk_at dksX7_next_0 1 rfl rfl)
theorem dX7_next_4 : decode cX7_next 4 = .ok (.aload_n 0, 1) := dk_42 (dk_at dksX7_next_0 4 rfl rfl)
theorem dX7_next_5 : decode cX7_next 5 = .ok (.aload_n 0, 1) := dk_42 (dk_at dksX7_next_0 5 rfl rfl)
theorem dX7_next_6 : decode cX7_next 6 = .ok (.getfield 33, 3) := dk_180 0 33 (dk_at dksX7_next_0 6 rfl rfl)
theorem dX7_next_9 : decode cX7_next 9 = .ok (.putfield 43, 3) := dk_181 0 43 (dk_at dksX7_next_0 9 rfl rfl)
theorem dX7_next_12 : decode cX7_next 12 = .ok (.aload_n 0, 1) := dk_42 (dk_at dksX7_next_0 12 rfl rfl)
theorem dX7_next_13 : decode cX7_next 13 = .ok (.aload_n 0, 1) := dk_42 (dk_at dksX7_next_0 13 rfl rfl)
theorem dX7_next_14 : decode cX7_next 14 = .ok (.getfield 33, 3) := dk_180 0 33 (dk_at dksX7_next_0 14 rfl rfl)
theorem dX7_next_17 : decode cX7_next 17 = .ok (.invokevirtual 36, 3) := dk_182 0 36 (dk_at dksX7_next_0 17 rfl rfl)
theorem dX7_next_20 : decode cX7_next 20 = .ok (.istore_n 1, 1) := dk_60 (dk_at dksX7_next_0 20 rfl rfl)
theorem dX7_next_21 : decode cX7_next 21 = .ok (.iload_n 1, 1) := dk_27 (dk_at dksX7_next_0 21 rfl rfl)
theorem dX7_next_22 : decode cX7_next 22 = .ok (.ifCond .ge 11, 3) := dk_156 0 11 (dk_at dksX7_next_1 0 rfl rfl)
theorem dX7_next_25 : decode cX7_next 25 = .ok (.aload_n 0, 1) := dk_42 (dk_at dksX7_next_1 3 rfl rfl)
theorem dX7_next_26 : decode cX7_next 26 = .ok (.iconst 0, 1) := dk_3 (dk_at dksX7_next_1 4 rfl rfl)
theorem dX7_next_27 : decode cX7_next 27 = .ok (.putfield 46, 3) := dk_181 0 46 (dk_at dksX7_next_1 5 rfl rfl)
theorem dX7_next_30 : decode cX7_next 30 = .ok (.goto 252, 3) := dk_167 0 252 (dk_at dksX7_next_1 8 rfl rfl)
theorem dX7_next_33 : decode cX7_next 33 = .ok (.aload_n 0, 1) := dk_42 (dk_at dksX7_next_1 11 rfl rfl)
theorem dX7_next_34 : decode cX7_next 34 = .ok (.iload_n 1, 1) := dk_27 (dk_at dksX7_next_1 12 rfl rfl)
theorem dX7_next_35 : decode cX7_next 35 = .ok (.invokevirtual 49, 3) := dk_182 0 49 (dk_at dksX7_next_1 13 rfl rfl)
theorem dX7_next_38 : decode cX7_next 38 = .ok (.ifCond .eq 122, 3) := dk_153 0 122 (dk_at dksX7_next_1 16 rfl rfl)
theorem dX7_next_41 : decode cX7_next 41 = .ok (.aload_n 0, 1) := dk_42 (dk_at dksX7_next_1 19 rfl rfl)
theorem dX7_next_42 : decode cX7_next 42 = .ok (.lconst 0, 1) := dk_9 (dk_at dksX7_next_1 20 rfl rfl)
theorem dX7_next_43 : decode cX7_next 43 = .ok (.putfield 53, 3) := dk_181 0 53 (dk_at dksX7_next_1 21 rfl rfl)
theorem dX7_next_46 : decode cX7_next 46 = .ok (.aload_n 0, 1) := dk_42 (dk_at dksX7_next_2 0 rfl rfl)
theorem dX7_next_47 : decode cX7_next 47 = .ok (.aload_n 0, 1) := dk_42 (dk_at dksX7_next_2 1 rfl rfl)
theorem dX7_next_48 : decode cX7_next 48 = .ok (.aload_n 0, 1) := dk_42 (dk_at dksX7_next_2 2 rfl rfl)
theorem dX7_next_49 : decode cX7_next 49 = .ok (.getfield 33, 3) := dk_180 0 33 (dk_at dksX7_next_2 3 rfl rfl)
theorem dX7_next_52 : decode cX7_next 52 = .ok (.invokevirtual 36, 3) := dk_182 0 36 (dk_at dksX7_next_2 6 rfl rfl)
theorem dX7_next_55 : decode cX7_next 55 = .ok (.invokevirtual 49, 3) := dk_182 0 49 (dk_at dksX7_next_2 9 rfl rfl)
theorem dX7_next_58 : decode cX7_next 58 = .ok (.ifCond .ne 18, 3) := dk_154 0 18 (dk_at dksX7_next_2 12 rfl rfl)
theorem dX7_next_61 : decode cX7_next 61 = .ok (.aload_n 0, 1) := dk_42 (dk_at dksX7_next_2 15 rfl rfl)
theorem dX7_next_62 : decode cX7_next 62 = .ok (.aload_n 0, 1) := dk_42 (dk_at dksX7_next_2 16 rfl rfl)
theorem dX7_next_63 : decode cX7_next 63 = .ok (.aload_n 0, 1) := dk_42 (dk_at dksX7_next_2 17 rfl rfl)
theorem dX7_next_64 : decode cX7_next 64 = .ok (.getfield 33, 3) := dk_180 0 33 (dk_at dksX7_next_2 18 rfl rfl)
theorem dX7_next_67 : decode cX7_next 67 = .ok (.invokevirtual 36, 3) := dk_182 0 36 (dk_at dksX7_next_2 21 rfl rfl)
theorem dX7_next_70 : decode cX7_next 70 = .ok (.invokevirtual 57, 3) := dk_182 0 57 (dk_at dksX7_next_3 0 rfl rfl)
theorem dX7_next_73 : decode cX7_next 73 = .ok (.ifCond .eq 34, 3) := dk_153 0 34 (dk_at dksX7_next_3 3 rfl rfl)
theorem dX7_next_76 : decode cX7_next 76 = .ok (.aload_n 0, 1) := dk_42 (dk_at dksX7_next_3 6 rfl rfl)
theorem dX7_next_77 : decode cX7_next 77 = .ok (.aload_n 0, 1) := dk_42 (dk_at dksX7_next_3 7 rfl rfl)
theorem dX7_next_78 : decode cX7_next 78 = .ok (.getfield 53, 3) := dk_180 0 53 (dk_at dksX7_next_3 8 rfl rfl)
theorem dX7_next_81 : decode cX7_next 81 = .ok (.bipush 8, 2) := dk_16 8 (dk_at dksX7_next_3 11 rfl rfl)
theorem dX7_next_83 : decode cX7_next 83 = .ok (.lshl, 1) := dk_121 (dk_at dksX7_next_3 13 rfl rfl)
theorem dX7_next_84 : decode cX7_next 84 = .ok (.aload_n 0, 1) := dk_42 (dk_at dksX7_next_3 14 rfl rfl)
theorem dX7_next_85 : decode cX7_next 85 = .ok (.aload_n 0, 1) := dk_42 (dk_at dksX7_next_3 15 rfl rfl)
theorem dX7_next_86 : decode cX7_next 86 = .ok (.dup, 1) := dk_89 (dk_at dksX7_next_3 16 rfl rfl)
theorem dX7_next_87 : decode cX7_next 87 = .ok (.getfield 33, 3) := dk_180 0 33 (dk_at dksX7_next_3 17 rfl rfl)
theorem dX7_next_90 : decode cX7_next 90 = .ok (.dup_x1, 1) := dk_90 (dk_at dksX7_next_3 20 rfl rfl)
theorem dX7_next_91 : decode cX7_next 91 = .ok (.iconst 1, 1) := dk_4 (dk_at dksX7_next_3 21 rfl rfl)
theorem dX7_next_92 : decode cX7_next 92 = .ok (.iadd, 1) := dk_96 (dk_at dksX7_next_3 22 rfl rfl)
theorem dX7_next_93 : decode cX7_next 93 = .ok (.putfield 33, 3) := dk_181 0 33 (dk_at dksX7_next_4 0 rfl rfl)
theorem dX7_next_96 : decode cX7_next 96 = .ok (.invokevirtual 36, 3) := dk_182 0 36 (dk_at dksX7_next_4 3 rfl rfl)
theorem dX7_next_99 : decode cX7_next 99 = .ok (.i2l, 1) := dk_133 (dk_at dksX7_next_4 6 rfl rfl)
theorem dX7_next_100 : decode cX7_next 100 = .ok (.lor, 1) := dk_129 (dk_at dksX7_next_4 7 rfl rfl)
theorem dX7_next_101 : decode cX7_next 101 = .ok (.putfield 53, 3) := dk_181 0 53 (dk_at dksX7_next_4 8 rfl rfl)
theorem dX7_next_104 : decode cX7_next 104 = .ok (.goto (-58), 3) := dk_167 255 198 (dk_at dksX7_next_4 11 rfl rfl)
theorem dX7_next_107 : decode cX7_next 107 = .ok (.aload_n 0, 1) := dk_42 (dk_at dksX7_next_4 14 rfl rfl)
theorem dX7_next_108 : decode cX7_next 108 = .ok (.getfield 33, 3) := dk_180 0 33 (dk_at dksX7_next_4 15 rfl rfl)
theorem dX7_next_111 : decode cX7_next 111 = .ok (.aload_n 0, 1) := dk_42 (dk_at dksX7_next_4 18 rfl rfl)
theorem dX7_next_112 : decode cX7_next 112 = .ok (.getfield 43, 3) := dk_180 0 43 (dk_at dksX7_next_4 19 rfl rfl)
theorem dX7_next_115 : decode cX7_next 115 = .ok (.isub, 1) := dk_100 (dk_at dksX7_next_4 22 rfl rfl)
theorem dX7_next_116 : decode cX7_next 116 = .ok (.bipush 8, 2) := dk_16 8 (dk_at dksX7_next_5 0 rfl rfl)
theorem dX7_next_118 : decode cX7_next 118 = .ok (.if_icmp .le 16, 3) := dk_164 0 16 (dk_at dksX7_next_5 2 rfl rfl)
theorem dX7_next_121 : decode cX7_next 121 = .ok (.new 60, 3) := dk_187 0 60 (dk_at dksX7_next_5 5 rfl rfl)
theorem dX7_next_124 : decode cX7_next 124 = .ok (.dup, 1) := dk_89 (dk_at dksX7_next_5 8 rfl rfl)
theorem dX7_next_125 : decode cX7_next 125 = .ok (.iconst 1, 1) := dk_4 (dk_at dksX7_next_5 9 rfl rfl)
theorem dX7_next_126 : decode cX7_next 126 = .ok (.aload_n 0, 1) := dk_42 (dk_at dksX7_next_5 10 rfl rfl)
theorem dX7_next_127 : decode cX7_next 127 = .ok (.getfield 43, 3) := dk_180 0 43 (dk_at dksX7_next_5 11 rfl rfl)
theorem dX7_next_130 : decode cX7_next 130 = .ok (.invokespecial 62, 3) := dk_183 0 62 (dk_at dksX7_next_5 14 rfl rfl)
theorem dX7_next_133 : decode cX7_next 133 = .ok (.athrow, 1) := dk_191 (dk_at dksX7_next_5 17 rfl rfl)
theorem dX7_next_134 : decode cX7_next 134 = .ok (.aload_n 0, 1) := dk_42 (dk_at dksX7_next_5 18 rfl rfl)
theorem dX7_next_135 : decode cX7_next 135 = .ok (.aload_n 0, 1) := dk_42 (dk_at dksX7_next_5 19 rfl rfl)
theorem dX7_next_136 : decode cX7_next 136 = .ok (.getfield 3, 3) := dk_180 0 3 (dk_at dksX7_next_5 20 rfl rfl)
theorem dX7_next_139 : decode cX7_next 139 = .ok (.aload_n 0, 1) := dk_42 (dk_at dksX7_next_5 23 rfl rfl)
theorem dX7_next_140 : decode cX7_next 140 = .ok (.getfield 53, 3) := dk_180 0 53 (dk_at dksX7_next_6 0 rfl rfl)
theorem dX7_next_143 : decode cX7_next 143 = .ok (.invokevirtual 65, 3) := dk_182 0 65 (dk_at dksX7_next_6 3 rfl rfl)
theorem dX7_next_146 : decode cX7_next 146 = .ok (.ifCond .eq 7, 3) := dk_153 0 7 (dk_at dksX7_next_6 6 rfl rfl)
theorem dX7_next_149 : decode cX7_next 149 = .ok (.iconst 4, 1) := dk_7 (dk_at dksX7_next_6 9 rfl rfl)
theorem dX7_next_150 : decode cX7_next 150 = .ok (.goto 4, 3) := dk_167 0 4 (dk_at dksX7_next_6 10 rfl rfl)
theorem dX7_next_153 : decode cX7_next 153 = .ok (.iconst 1, 1) := dk_4 (dk_at dksX7_next_6 13 rfl rfl)
theorem dX7_next_154 : decode cX7_next 154 = .ok (.putfield 46, 3) := dk_181 0 46 (dk_at dksX7_next_6 14 rfl rfl)
theorem dX7_next_157 : decode cX7_next 157 = .ok (.goto 125, 3) := dk_167 0 125 (dk_at dksX7_next_6 17 rfl rfl)
theorem dX7_next_160 : decode cX7_next 160 = .ok (.aload_n 0, 1) := dk_42 (dk_at dksX7_next_6 20 rfl rfl)
theorem dX7_next_161 : decode cX7_next 161 = .ok (.iload_n 1, 1) := dk_27 (dk_at dksX7_next_6 21 rfl rfl)
theorem dX7_next_162 : decode cX7_next 162 = .ok (.invokevirtual 57, 3) := dk_182 0 57 (dk_at dksX7_next_7 0 rfl rfl)
theorem dX7_next_165 : decode cX7_next 165 = .ok (.ifCond .eq 112, 3) := dk_153 0 112 (dk_at dksX7_next_7 3 rfl rfl)
theorem dX7_next_168 : decode cX7_next 168 = .ok (.aload_n 0, 1) := dk_42 (dk_at dksX7_next_7 6 rfl rfl)
theorem dX7_next_169 : decode cX7_next 169 = .ok (.iconst 2, 1) := dk_5 (dk_at dksX7_next_7 7 rfl rfl)
theorem dX7_next_170 : decode cX7_next 170 = .ok (.putfield 46, 3) := dk_181 0 46 (dk_at dksX7_next_7 8 rfl rfl)
theorem dX7_next_173 : decode cX7_next 173 = .ok (.aload_n 0, 1) := dk_42 (dk_at dksX7_next_7 11 rfl rfl)
theorem dX7_next_174 : decode cX7_next 174 = .ok (.iconst 0, 1) := dk_3 (dk_at dksX7_next_7 12 rfl rfl)
theorem dX7_next_175 : decode cX7_next 175 = .ok (.putfield 69, 3) := dk_181 0 69 (dk_at dksX7_next_7 13 rfl rfl)
theorem dX7_next_178 : decode cX7_next 178 = .ok (.aload_n 0, 1) := dk_42 (dk_at dksX7_next_7 16 rfl rfl)
theorem dX7_next_179 : decode cX7_next 179 = .ok (.aload_n 0, 1) := dk_42 (dk_at dksX7_next_7 17 rfl rfl)
theorem dX7_next_180 : decode cX7_next 180 = .ok (.aload_n 0, 1) := dk_42 (dk_at dksX7_next_7 18 rfl rfl)
theorem dX7_next_181 : decode cX7_next 181 = .ok (.getfield 33, 3) := dk_180 0 33 (dk_at dksX7_next_7 19 rfl rfl)
theorem dX7_next_184 : decode cX7_next 184 = .ok (.invokevirtual 36, 3) := dk_182 0 36 (dk_at dksX7_next_8 0 rfl rfl)
theorem dX7_next_187 : decode cX7_next 187 = .ok (.invokevirtual 57, 3) := dk_182 0 57 (dk_at dksX7_next_8 3 rfl rfl)
theorem dX7_next_190 : decode cX7_next 190 = .ok (.ifCond .eq 60, 3) := dk_153 0 60 (dk_at dksX7_next_8 6 rfl rfl)
theorem dX7_next_193 : decode cX7_next 193 = .ok (.aload_n 0, 1) := dk_42 (dk_at dksX7_next_8 9 rfl rfl)
theorem dX7_next_194 : decode cX7_next 194 = .ok (.aload_n 0, 1) := dk_42 (dk_at dksX7_next_8 10 rfl rfl)
theorem dX7_next_195 : decode cX7_next 195 = .ok (.getfield 33, 3) := dk_180 0 33 (dk_at dksX7_next_8 11 rfl rfl)
theorem dX7_next_198 : decode cX7_next 198 = .ok (.aload_n 0, 1) := dk_42 (dk_at dksX7_next_8 14 rfl rfl)
theorem dX7_next_199 : decode cX7_next 199 = .ok (.getfield 43, 3) := dk_180 0 43 (dk_at dksX7_next_8 15 rfl rfl)
theorem dX7_next_202 : decode cX7_next 202 = .ok (.isub, 1) := dk_100 (dk_at dksX7_next_8 18 rfl rfl)
theorem dX7_next_203 : decode cX7_next 203 = .ok (.bipush 9, 2) := dk_16 9 (dk_at dksX7_next_8 19 rfl rfl)
theorem dX7_next_205 : decode cX7_next 205 = .ok (.if_icmp .ge 25, 3) := dk_162 0 25 (dk_at dksX7_next_8 21 rfl rfl)
theorem dX7_next_208 : decode cX7_next 208 = .ok (.bipush 10, 2) := dk_16 10 (dk_at dksX7_next_9 0 rfl rfl)
theorem dX7_next_210 : decode cX7_next 210 = .ok (.aload_n 0, 1) := dk_42 (dk_at dksX7_next_9 2 rfl rfl)
theorem dX7_next_211 : decode cX7_next 211 = .ok (.getfield 69, 3) := dk_180 0 69 (dk_at dksX7_next_9 3 rfl rfl)
theorem dX7_next_214 : decode cX7_next 214 = .ok (.imul, 1) := dk_104 (dk_at dksX7_next_9 6 rfl rfl)
theorem dX7_next_215 : decode cX7_next 215 = .ok (.aload_n 0, 1) := dk_42 (dk_at dksX7_next_9 7 rfl rfl)
theorem dX7_next_216 : decode cX7_next 216 = .ok (.aload_n 0, 1) := dk_42 (dk_at dksX7_next_9 8 rfl rfl)
theorem dX7_next_217 : decode cX7_next 217 = .ok (.getfield 33, 3) := dk_180 0 33 (dk_at dksX7_next_9 9 rfl rfl)
theorem dX7_next_220 : decode cX7_next 220 = .ok (.invokevirtual 36, 3) := dk_182 0 36 (dk_at dksX7_next_9 12 rfl rfl)
theorem dX7_next_223 : decode cX7_next 223 = .ok (.iadd, 1) := dk_96 (dk_at dksX7_next_9 15 rfl rfl)
theorem dX7_next_224 : decode cX7_next 224 = .ok (.bipush 48, 2) := dk_16 48 (dk_at dksX7_next_9 16 rfl rfl)
theorem dX7_next_226 : decode cX7_next 226 = .ok (.isub, 1) := dk_100 (dk_at dksX7_next_9 18 rfl rfl)
theorem dX7_next_227 : decode cX7_next 227 = .ok (.goto 7, 3) := dk_167 0 7 (dk_at dksX7_next_9 19 rfl rfl)
theorem dX7_next_230 : decode cX7_next 230 = .ok (.aload_n 0, 1) := dk_42 (dk_at dksX7_next_9 22 rfl rfl)
theorem dX7_next_231 : decode cX7_next 231 = .ok (.getfield 69, 3) := dk_180 0 69 (dk_at dksX7_next_10 0 rfl rfl)
theorem dX7_next_234 : decode cX7_next 234 = .ok (.putfield 69, 3) := dk_181 0 69 (dk_at dksX7_next_10 3 rfl rfl)
theorem dX7_next_237 : decode cX7_next 237 = .ok (.aload_n 0, 1) := dk_42 (dk_at dksX7_next_10 6 rfl rfl)
theorem dX7_next_238 : decode cX7_next 238 = .ok (.dup, 1) := dk_89 (dk_at dksX7_next_10 7 rfl rfl)
theorem dX7_next_239 : decode cX7_next 239 = .ok (.getfield 33, 3) := dk_180 0 33 (dk_at dksX7_next_10 8 rfl rfl)
theorem dX7_next_242 : decode cX7_next 242 = .ok (.iconst 1, 1) := dk_4 (dk_at dksX7_next_10 11 rfl rfl)
theorem dX7_next_243 : decode cX7_next 243 = .ok (.iadd, 1) := dk_96 (dk_at dksX7_next_10 12 rfl rfl)
theorem dX7_next_244 : decode cX7_next 244 = .ok (.putfield 33, 3) := dk_181 0 33 (dk_at dksX7_next_10 13 rfl rfl)
theorem dX7_next_247 : decode cX7_next 247 = .ok (.goto (-69), 3) := dk_167 255 187 (dk_at dksX7_next_10 16 rfl rfl)
theorem dX7_next_250 : decode cX7_next 250 = .ok (.aload_n 0, 1) := dk_42 (dk_at dksX7_next_10 19 rfl rfl)
theorem dX7_next_251 : decode cX7_next 251 = .ok (.getfield 33, 3) := dk_180 0 33 (dk_at dksX7_next_10 20 rfl rfl)
theorem dX7_next_254 : decode cX7_next 254 = .ok (.aload_n 0, 1) := dk_42 (dk_at dksX7_next_10 23 rfl rfl)
theorem dX7_next_255 : decode cX7_next 255 = .ok (.getfield 43, 3) := dk_180 0 43 (dk_at dksX7_next_11 0 rfl rfl)
theorem dX7_next_258 : decode cX7_next 258 = .ok (.isub, 1) := dk_100 (dk_at dksX7_next_11 3 rfl rfl)
theorem dX7_next_259 : decode cX7_next 259 = .ok (.bipush 9, 2) := dk_16 9 (dk_at dksX7_next_11 4 rfl rfl)
theorem dX7_next_261 : decode cX7_next 261 = .ok (.if_icmp .le 21, 3) := dk_164 0 21 (dk_at dksX7_next_11 6 rfl rfl)
theorem dX7_next_264 : decode cX7_next 264 = .ok (.new 60, 3) := dk_187 0 60 (dk_at dksX7_next_11 9 rfl rfl)
theorem dX7_next_267 : decode cX7_next 267 = .ok (.dup, 1) := dk_89 (dk_at dksX7_next_11 12 rfl rfl)
theorem dX7_next_268 : decode cX7_next 268 = .ok (.iconst 1, 1) := dk_4 (dk_at dksX7_next_11 13 rfl rfl)
theorem dX7_next_269 : decode cX7_next 269 = .ok (.aload_n 0, 1) := dk_42 (dk_at dksX7_next_11 14 rfl rfl)
theorem dX7_next_270 : decode cX7_next 270 = .ok (.getfield 43, 3) := dk_180 0 43 (dk_at dksX7_next_11 15 rfl rfl)
theorem dX7_next_273 : decode cX7_next 273 = .ok (.invokespecial 62, 3) := dk_183 0 62 (dk_at dksX7_next_11 18 rfl rfl)
theorem dX7_next_276 : decode cX7_next 276 = .ok (.athrow, 1) := dk_191 (dk_at dksX7_next_11 21 rfl rfl)
theorem dX7_next_277 : decode cX7_next 277 = .ok (.aload_n 0, 1) := dk_42 (dk_at dksX7_next_11 22 rfl rfl)
theorem dX7_next_278 : decode cX7_next 278 = .ok (.iload_n 1, 1) := dk_27 (dk_at dksX7_next_11 23 rfl rfl)
theorem dX7_next_279 : decode cX7_next 279 = .ok (.invokevirtual 72, 3) := dk_182 0 72 (dk_at dksX7_next_12 0 rfl rfl)
theorem dX7_next_282 : decode cX7_next 282 = .ok (.return_, 1) := dk_177 (dk_at dksX7_next_12 3 rfl rfl)
abbrev cX7_pass : ByteArray := prog_18_method_5_code
def yX7_pass : MethodName := ⟨RX7, "pass", "()V"⟩
def dkwX7_pass_4 : List UInt8 := [3, 60, 167, 255, 161, 177]
abbrev dktX7_pass_4 : List UInt8 := dkwX7_pass_4 ++ []
def dkwX7_pass_3 : List UInt8 := [16, 10, 159, 0, 9, 28, 16, 13, 160, 0, 16, 42, 89, 180, 0, 33, 4, 96, 181, 0, 33, 167, 0, 5]
abbrev dktX7_pass_3 : List UInt8 := dkwX7_pass_3 ++ dktX7_pass_4
def dkwX7_pass_2 : List UInt8 := [180, 0, 33, 4, 96, 181, 0, 33, 167, 255, 222, 28, 16, 32, 159, 0, 21, 28, 16, 9, 159, 0, 15, 28]
abbrev dktX7_pass_2 : List UInt8 := dkwX7_pass_2 ++ dktX7_pass_3
def dkwX7_pass_1 : List UInt8 := [180, 0, 33, 182, 0, 36, 155, 0, 68, 42, 42, 180, 0, 33, 182, 0, 36, 16, 10, 159, 0, 55, 42, 89]
abbrev dktX7_pass_1 : List UInt8 := dkwX7_pass_1 ++ dktX7_pass_2
def dkwX7_pass_0 : List UInt8 := [4, 60, 27, 153, 0, 97, 42, 42, 180, 0, 33, 182, 0, 36, 61, 28, 16, 35, 160, 0, 40, 42, 42]
abbrev dktX7_pass_0 : List UInt8 := dkwX7_pass_0 ++ dktX7_pass_1
theorem dksX7_pass_0 : cX7_pass.data.toList.drop 0 = dktX7_pass_0 := by decide +kernel
theorem dksX7_pass_1 : cX7_pass.data.toList.drop 23 = dktX7_pass_1 := dk_seg dksX7_pass_0 23 rfl rfl
theorem dksX7_pass_2 : cX7_pass.data.toList.drop 47 = dktX7_pass_2 := dk_seg dksX7_pass_1 24 rfl rfl
theorem dksX7_pass_3 : cX7_pass.data.toList.drop 71 = dktX7_pass_3 := dk_seg dksX7_pass_2 24 rfl rfl
theorem dksX7_pass_4 : cX7_pass.data.toList.drop 95 = dktX7_pass_4 := dk_seg dksX7_pass_3 24 rfl rfl
theorem dX7_pass_0 : decode cX7_pass 0 = .ok (.iconst 1, 1) := dk_4 (dk_at dksX7_pass_0 0 rfl rfl)
theorem dX7_pass_1 : decode cX7_pass 1 = .ok (.istore_n 1, 1) := dk_60 (dk_at dksX7_pass_0 1 rfl rfl)
theorem dX7_pass_2 : decode cX7_pass 2 = .ok (.iload_n 1, 1) := dk_27 (dk_at dksX7_pass_0 2 rfl rfl)
theorem dX7_pass_3 : decode cX7_pass 3 = .ok (.ifCond .eq 97, 3) := dk_153 0 97 (dk_at dksX7_pass_0 3 rfl rfl)
theorem dX7_pass_6 : decode cX7_pass 6 = .ok (.aload_n 0, 1) := dk_42 (dk_at dksX7_pass_0 6 rfl rfl)
theorem dX7_pass_7 : decode cX7_pass 7 = .ok (.aload_n 0, 1) := dk_42 (dk_at dksX7_pass_0 7 rfl rfl)
theorem dX7_pass_8 : decode cX7_pass 8 = .ok (.getfield 33, 3) := dk_180 0 33 (dk_at dksX7_pass_0 8 rfl rfl)
theorem dX7_pass_11 : decode cX7_pass 11 = .ok (.invokevirtual 36, 3) := dk_182 0 36 (dk_at dksX7_pass_0 11 rfl rfl)
theorem dX7_pass_14 : decode cX7_pass 14 = .ok (.istore_n 2, 1) := dk_61 (dk_at dksX7_pass_0 14 rfl rfl)
theorem dX7_pass_15 : decode cX7_pass 15 = .ok (.iload_n 2, 1) := dk_28 (dk_at dksX7_pass_0 15 rfl rfl)
theorem dX7_pass_16 : decode cX7_pass 16 = .ok (.bipush 35, 2) := dk_16 35 (dk_at dksX7_pass_0 16 rfl rfl)
theorem dX7_pass_18 : decode cX7_pass 18 = .ok (.if_icmp .ne 40, 3) := dk_160 0 40 (dk_at dksX7_pass_0 18 rfl rfl)
theorem dX7_pass_21 : decode cX7_pass 21 = .ok (.aload_n 0, 1) := dk_42 (dk_at dksX7_pass_0 21 rfl rfl)
theorem dX7_pass_22 : decode cX7_pass 22 = .ok (.aload_n 0, 1) := dk_42 (dk_at dksX7_pass_0 22 rfl rfl)
theorem dX7_pass_23 : decode cX7_pass 23 = .ok (.getfield 33, 3) := dk_180 0 33 (dk_at dksX7_pass_1 0 rfl rfl)
theorem dX7_pass_26 : decode cX7_pass 26 = .ok (.invokevirtual 36, 3) := dk_182 0 36 (dk_at dksX7_pass_1 3 rfl rfl)
theorem dX7_pass_29 : decode cX7_pass 29 = .ok (.ifCond .lt 68, 3) := dk_155 0 68 (dk_at dksX7_pass_1 6 rfl rfl)
theorem dX7_pass_32 : decode cX7_pass 32 = .ok (.aload_n 0, 1) := dk_42 (dk_at dksX7_pass_1 9 rfl rfl)
theorem dX7_pass_33 : decode cX7_pass 33 = .ok (.aload_n 0, 1) := dk_42 (dk_at dksX7_pass_1 10 rfl rfl)
theorem dX7_pass_34 : decode cX7_pass 34 = .ok (.getfield 33, 3) := dk_180 0 33 (dk_at dksX7_pass_1 11 rfl rfl)
theorem dX7_pass_37 : decode cX7_pass 37 = .ok (.invokevirtual 36, 3) := dk_182 0 36 (dk_at dksX7_pass_1 14 rfl rfl)
theorem dX7_pass_40 : decode cX7_pass 40 = .ok (.bipush 10, 2) := dk_16 10 (dk_at dksX7_pass_1 17 rfl rfl)
theorem dX7_pass_42 : decode cX7_pass 42 = .ok (.if_icmp .eq 55, 3) := dk_159 0 55 (dk_at dksX7_pass_1 19 rfl rfl)
theorem dX7_pass_45 : decode cX7_pass 45 = .ok (.aload_n 0, 1) := dk_42 (dk_at dksX7_pass_1 22 rfl rfl)
theorem dX7_pass_46 : decode cX7_pass 46 = .ok (.dup, 1) := dk_89 (dk_at dksX7_pass_1 23 rfl rfl)
theorem dX7_pass_47 : decode cX7_pass 47 = .ok (.getfield 33, 3) := dk_180 0 33 (dk_at dksX7_pass_2 0 rfl rfl)
theorem dX7_pass_50 : decode cX7_pass 50 = .ok (.iconst 1, 1) := dk_4 (dk_at dksX7_pass_2 3 rfl rfl)
theorem dX7_pass_51 : decode cX7_pass 51 = .ok (.iadd, 1) := dk_96 (dk_at dksX7_pass_2 4 rfl rfl)
theorem dX7_pass_52 : decode cX7_pass 52 = .ok (.putfield 33, 3) := dk_181 0 33 (dk_at dksX7_pass_2 5 rfl rfl)
theorem dX7_pass_55 : decode cX7_pass 55 = .ok (.goto (-34), 3) := dk_167 255 222 (dk_at dksX7_pass_2 8 rfl rfl)
theorem dX7_pass_58 : decode cX7_pass 58 = .ok (.iload_n 2, 1) := dk_28 (dk_at dksX7_pass_2 11 rfl rfl)
theorem dX7_pass_59 : decode cX7_pass 59 = .ok (.bipush 32, 2) := dk_16 32 (dk_at dksX7_pass_2 12 rfl rfl)
theorem dX7_pass_61 : decode cX7_pass 61 = .ok (.if_icmp .eq 21, 3) := dk_159 0 21 (dk_at dksX7_pass_2 14 rfl rfl)
theorem dX7_pass_64 : decode cX7_pass 64 = .ok (.iload_n 2, 1) := dk_28 (dk_at dksX7_pass_2 17 rfl rfl)
theorem dX7_pass_65 : decode cX7_pass 65 = .ok (.bipush 9, 2) := dk_16 9 (dk_at dksX7_pass_2 18 rfl rfl)
theorem dX7_pass_67 : decode cX7_pass 67 = .ok (.if_icmp .eq 15, 3) := dk_159 0 15 (dk_at dksX7_pass_2 20 rfl rfl)
theorem dX7_pass_70 : decode cX7_pass 70 = .ok (.iload_n 2, 1) := dk_28 (dk_at dksX7_pass_2 23 rfl rfl)
theorem dX7_pass_71 : decode cX7_pass 71 = .ok (.bipush 10, 2) := dk_16 10 (dk_at dksX7_pass_3 0 rfl rfl)
theorem dX7_pass_73 : decode cX7_pass 73 = .ok (.if_icmp .eq 9, 3) := dk_159 0 9 (dk_at dksX7_pass_3 2 rfl rfl)
theorem dX7_pass_76 : decode cX7_pass 76 = .ok (.iload_n 2, 1) := dk_28 (dk_at dksX7_pass_3 5 rfl rfl)
theorem dX7_pass_77 : decode cX7_pass 77 = .ok (.bipush 13, 2) := dk_16 13 (dk_at dksX7_pass_3 6 rfl rfl)
theorem dX7_pass_79 : decode cX7_pass 79 = .ok (.if_icmp .ne 16, 3) := dk_160 0 16 (dk_at dksX7_pass_3 8 rfl rfl)
theorem dX7_pass_82 : decode cX7_pass 82 = .ok (.aload_n 0, 1) := dk_42 (dk_at dksX7_pass_3 11 rfl rfl)
theorem dX7_pass_83 : decode cX7_pass 83 = .ok (.dup, 1) := dk_89 (dk_at dksX7_pass_3 12 rfl rfl)
theorem dX7_pass_84 : decode cX7_pass 84 = .ok (.getfield 33, 3) := dk_180 0 33 (dk_at dksX7_pass_3 13 rfl rfl)
theorem dX7_pass_87 : decode cX7_pass 87 = .ok (.iconst 1, 1) := dk_4 (dk_at dksX7_pass_3 16 rfl rfl)
theorem dX7_pass_88 : decode cX7_pass 88 = .ok (.iadd, 1) := dk_96 (dk_at dksX7_pass_3 17 rfl rfl)
theorem dX7_pass_89 : decode cX7_pass 89 = .ok (.putfield 33, 3) := dk_181 0 33 (dk_at dksX7_pass_3 18 rfl rfl)
theorem dX7_pass_92 : decode cX7_pass 92 = .ok (.goto 5, 3) := dk_167 0 5 (dk_at dksX7_pass_3 21 rfl rfl)
theorem dX7_pass_95 : decode cX7_pass 95 = .ok (.iconst 0, 1) := dk_3 (dk_at dksX7_pass_4 0 rfl rfl)
theorem dX7_pass_96 : decode cX7_pass 96 = .ok (.istore_n 1, 1) := dk_60 (dk_at dksX7_pass_4 1 rfl rfl)
theorem dX7_pass_97 : decode cX7_pass 97 = .ok (.goto (-95), 3) := dk_167 255 161 (dk_at dksX7_pass_4 2 rfl rfl)
theorem dX7_pass_100 : decode cX7_pass 100 = .ok (.return_, 1) := dk_177 (dk_at dksX7_pass_4 5 rfl rfl)
abbrev cX7_octet : ByteArray := prog_18_method_2_code
def yX7_octet : MethodName := ⟨RX7, "octet", "(I)I"⟩
def dkwX7_octet_1 : List UInt8 := [167, 0, 4, 2, 172]
abbrev dktX7_octet_1 : List UInt8 := dkwX7_octet_1 ++ []
def dkwX7_octet_0 : List UInt8 := [27, 42, 180, 0, 3, 180, 0, 26, 162, 0, 19, 42, 180, 0, 3, 180, 0, 29, 27, 51, 17, 0, 255, 126]
abbrev dktX7_octet_0 : List UInt8 := dkwX7_octet_0 ++ dktX7_octet_1
theorem dksX7_octet_0 : cX7_octet.data.toList.drop 0 = dktX7_octet_0 := by decide +kernel
theorem dksX7_octet_1 : cX7_octet.data.toList.drop 24 = dktX7_octet_1 := dk_seg dksX7_octet_0 24 rfl rfl
theorem dX7_octet_0 : decode cX7_octet 0 = .ok (.iload_n 1, 1) := dk_27 (dk_at dksX7_octet_0 0 rfl rfl)
theorem dX7_octet_1 : decode cX7_octet 1 = .ok (.aload_n 0, 1) := dk_42 (dk_at dksX7_octet_0 1 rfl rfl)
theorem dX7_octet_2 : decode cX7_octet 2 = .ok (.getfield 3, 3) := dk_180 0 3 (dk_at dksX7_octet_0 2 rfl rfl)
theorem dX7_octet_5 : decode cX7_octet 5 = .ok (.getfield 26, 3) := dk_180 0 26 (dk_at dksX7_octet_0 5 rfl rfl)
theorem dX7_octet_8 : decode cX7_octet 8 = .ok (.if_icmp .ge 19, 3) := dk_162 0 19 (dk_at dksX7_octet_0 8 rfl rfl)
theorem dX7_octet_11 : decode cX7_octet 11 = .ok (.aload_n 0, 1) := dk_42 (dk_at dksX7_octet_0 11 rfl rfl)
theorem dX7_octet_12 : decode cX7_octet 12 = .ok (.getfield 3, 3) := dk_180 0 3 (dk_at dksX7_octet_0 12 rfl rfl)
theorem dX7_octet_15 : decode cX7_octet 15 = .ok (.getfield 29, 3) := dk_180 0 29 (dk_at dksX7_octet_0 15 rfl rfl)
theorem dX7_octet_18 : decode cX7_octet 18 = .ok (.iload_n 1, 1) := dk_27 (dk_at dksX7_octet_0 18 rfl rfl)
theorem dX7_octet_19 : decode cX7_octet 19 = .ok (.baload, 1) := dk_51 (dk_at dksX7_octet_0 19 rfl rfl)
theorem dX7_octet_20 : decode cX7_octet 20 = .ok (.sipush 255, 3) := dk_17 0 255 (dk_at dksX7_octet_0 20 rfl rfl)
theorem dX7_octet_23 : decode cX7_octet 23 = .ok (.iand, 1) := dk_126 (dk_at dksX7_octet_0 23 rfl rfl)
theorem dX7_octet_24 : decode cX7_octet 24 = .ok (.goto 4, 3) := dk_167 0 4 (dk_at dksX7_octet_1 0 rfl rfl)
theorem dX7_octet_27 : decode cX7_octet 27 = .ok (.iconst (-1), 1) := dk_2 (dk_at dksX7_octet_1 3 rfl rfl)
theorem dX7_octet_28 : decode cX7_octet 28 = .ok (.ireturn, 1) := dk_172 (dk_at dksX7_octet_1 4 rfl rfl)
abbrev cX7_isLetter : ByteArray := prog_18_method_3_code
def yX7_isLetter : MethodName := ⟨RX7, "isLetter", "(I)Z"⟩
def dkwX7_isLetter_0 : List UInt8 := [27, 16, 97, 161, 0, 13, 27, 16, 122, 163, 0, 7, 4, 167, 0, 4, 3, 172]
abbrev dktX7_isLetter_0 : List UInt8 := dkwX7_isLetter_0 ++ []
theorem dksX7_isLetter_0 : cX7_isLetter.data.toList.drop 0 = dktX7_isLetter_0 := by decide +kernel
theorem dX7_isLetter_0 : decode cX7_isLetter 0 = .ok (.iload_n 1, 1) := dk_27 (dk_at dksX7_isLetter_0 0 rfl rfl)
theorem dX7_isLetter_1 : decode cX7_isLetter 1 = .ok (.bipush 97, 2) := dk_16 97 (dk_at dksX7_isLetter_0 1 rfl rfl)
theorem dX7_isLetter_3 : decode cX7_isLetter 3 = .ok (.if_icmp .lt 13, 3) := dk_161 0 13 (dk_at dksX7_isLetter_0 3 rfl rfl)
theorem dX7_isLetter_6 : decode cX7_isLetter 6 = .ok (.iload_n 1, 1) := dk_27 (dk_at dksX7_isLetter_0 6 rfl rfl)
theorem dX7_isLetter_7 : decode cX7_isLetter 7 = .ok (.bipush 122, 2) := dk_16 122 (dk_at dksX7_isLetter_0 7 rfl rfl)
theorem dX7_isLetter_9 : decode cX7_isLetter 9 = .ok (.if_icmp .gt 7, 3) := dk_163 0 7 (dk_at dksX7_isLetter_0 9 rfl rfl)
theorem dX7_isLetter_12 : decode cX7_isLetter 12 = .ok (.iconst 1, 1) := dk_4 (dk_at dksX7_isLetter_0 12 rfl rfl)
theorem dX7_isLetter_13 : decode cX7_isLetter 13 = .ok (.goto 4, 3) := dk_167 0 4 (dk_at dksX7_isLetter_0 13 rfl rfl)
theorem dX7_isLetter_16 : decode cX7_isLetter 16 = .ok (.iconst 0, 1) := dk_3 (dk_at dksX7_isLetter_0 16 rfl rfl)
theorem dX7_isLetter_17 : decode cX7_isLetter 17 = .ok (.ireturn, 1) := dk_172 (dk_at dksX7_isLetter_0 17 rfl rfl)
abbrev cX7_isFigure : ByteArray := prog_18_method_4_code
def yX7_isFigure : MethodName := ⟨RX7, "isFigure", "(I)Z"⟩
def dkwX7_isFigure_0 : List UInt8 := [27, 16, 48, 161, 0, 13, 27, 16, 57, 163, 0, 7, 4, 167, 0, 4, 3, 172]
abbrev dktX7_isFigure_0 : List UInt8 := dkwX7_isFigure_0 ++ []
theorem dksX7_isFigure_0 : cX7_isFigure.data.toList.drop 0 = dktX7_isFigure_0 := by decide +kernel
theorem dX7_isFigure_0 : decode cX7_isFigure 0 = .ok (.iload_n 1, 1) := dk_27 (dk_at dksX7_isFigure_0 0 rfl rfl)
theorem dX7_isFigure_1 : decode cX7_isFigure 1 = .ok (.bipush 48, 2) := dk_16 48 (dk_at dksX7_isFigure_0 1 rfl rfl)
theorem dX7_isFigure_3 : decode cX7_isFigure 3 = .ok (.if_icmp .lt 13, 3) := dk_161 0 13 (dk_at dksX7_isFigure_0 3 rfl rfl)
theorem dX7_isFigure_6 : decode cX7_isFigure 6 = .ok (.iload_n 1, 1) := dk_27 (dk_at dksX7_isFigure_0 6 rfl rfl)
theorem dX7_isFigure_7 : decode cX7_isFigure 7 = .ok (.bipush 57, 2) := dk_16 57 (dk_at dksX7_isFigure_0 7 rfl rfl)
theorem dX7_isFigure_9 : decode cX7_isFigure 9 = .ok (.if_icmp .gt 7, 3) := dk_163 0 7 (dk_at dksX7_isFigure_0 9 rfl rfl)
theorem dX7_isFigure_12 : decode cX7_isFigure 12 = .ok (.iconst 1, 1) := dk_4 (dk_at dksX7_isFigure_0 12 rfl rfl)
theorem dX7_isFigure_13 : decode cX7_isFigure 13 = .ok (.goto 4, 3) := dk_167 0 4 (dk_at dksX7_isFigure_0 13 rfl rfl)
theorem dX7_isFigure_16 : decode cX7_isFigure 16 = .ok (.iconst 0, 1) := dk_3 (dk_at dksX7_isFigure_0 16 rfl rfl)
theorem dX7_isFigure_17 : decode cX7_isFigure 17 = .ok (.ireturn, 1) := dk_172 (dk_at dksX7_isFigure_0 17 rfl rfl)
abbrev cX7_sign : ByteArray := prog_18_method_7_code
def yX7_sign : MethodName := ⟨RX7, "sign", "(I)V"⟩
def dkwX7_sign_6 : List UInt8 := [181, 0, 33, 177]
abbrev dktX7_sign_6 : List UInt8 := dkwX7_sign_6 ++ []
def dkwX7_sign_5 : List UInt8 := [180, 0, 43, 183, 0, 62, 191, 42, 89, 180, 0, 33, 29, 153, 0, 7, 5, 167, 0, 4, 4, 96]
abbrev dktX7_sign_5 : List UInt8 := dkwX7_sign_5 ++ dktX7_sign_6
def dkwX7_sign_4 : List UInt8 := [16, 61, 159, 0, 28, 27, 16, 60, 159, 0, 22, 27, 16, 62, 159, 0, 16, 187, 0, 60, 89, 4, 42]
abbrev dktX7_sign_4 : List UInt8 := dkwX7_sign_4 ++ dktX7_sign_5
def dkwX7_sign_3 : List UInt8 := [16, 59, 159, 0, 52, 27, 16, 44, 159, 0, 46, 27, 16, 40, 159, 0, 40, 27, 16, 41, 159, 0, 34, 27]
abbrev dktX7_sign_3 : List UInt8 := dkwX7_sign_3 ++ dktX7_sign_4
def dkwX7_sign_2 : List UInt8 := [6, 181, 0, 46, 42, 29, 153, 0, 13, 17, 1, 0, 27, 104, 28, 96, 167, 0, 4, 27, 181, 0, 76, 27]
abbrev dktX7_sign_2 : List UInt8 := dkwX7_sign_2 ++ dktX7_sign_3
def dkwX7_sign_1 : List UInt8 := [16, 62, 159, 0, 15, 27, 16, 60, 160, 0, 13, 28, 16, 62, 160, 0, 7, 4, 167, 0, 4, 3, 62, 42]
abbrev dktX7_sign_1 : List UInt8 := dkwX7_sign_1 ++ dktX7_sign_2
def dkwX7_sign_0 : List UInt8 := [42, 42, 180, 0, 33, 4, 96, 182, 0, 36, 61, 28, 16, 61, 160, 0, 15, 27, 16, 60, 159, 0, 21, 27]
abbrev dktX7_sign_0 : List UInt8 := dkwX7_sign_0 ++ dktX7_sign_1
theorem dksX7_sign_0 : cX7_sign.data.toList.drop 0 = dktX7_sign_0 := by decide +kernel
theorem dksX7_sign_1 : cX7_sign.data.toList.drop 24 = dktX7_sign_1 := dk_seg dksX7_sign_0 24 rfl rfl
theorem dksX7_sign_2 : cX7_sign.data.toList.drop 48 = dktX7_sign_2 := dk_seg dksX7_sign_1 24 rfl rfl
theorem dksX7_sign_3 : cX7_sign.data.toList.drop 72 = dktX7_sign_3 := dk_seg dksX7_sign_2 24 rfl rfl
theorem dksX7_sign_4 : cX7_sign.data.toList.drop 96 = dktX7_sign_4 := dk_seg dksX7_sign_3 24 rfl rfl
theorem dksX7_sign_5 : cX7_sign.data.toList.drop 119 = dktX7_sign_5 := dk_seg dksX7_sign_4 23 rfl rfl
theorem dksX7_sign_6 : cX7_sign.data.toList.drop 141 = dktX7_sign_6 := dk_seg dksX7_sign_5 22 rfl rfl
theorem dX7_sign_0 : decode cX7_sign 0 = .ok (.aload_n 0, 1) := dk_42 (dk_at dksX7_sign_0 0 rfl rfl)
theorem dX7_sign_1 : decode cX7_sign 1 = .ok (.aload_n 0, 1) := dk_42 (dk_at dksX7_sign_0 1 rfl rfl)
theorem dX7_sign_2 : decode cX7_sign 2 = .ok (.getfield 33, 3) := dk_180 0 33 (dk_at dksX7_sign_0 2 rfl rfl)
theorem dX7_sign_5 : decode cX7_sign 5 = .ok (.iconst 1, 1) := dk_4 (dk_at dksX7_sign_0 5 rfl rfl)
theorem dX7_sign_6 : decode cX7_sign 6 = .ok (.iadd, 1) := dk_96 (dk_at dksX7_sign_0 6 rfl rfl)
theorem dX7_sign_7 : decode cX7_sign 7 = .ok (.invokevirtual 36, 3) := dk_182 0 36 (dk_at dksX7_sign_0 7 rfl rfl)
theorem dX7_sign_10 : decode cX7_sign 10 = .ok (.istore_n 2, 1) := dk_61 (dk_at dksX7_sign_0 10 rfl rfl)
theorem dX7_sign_11 : decode cX7_sign 11 = .ok (.iload_n 2, 1) := dk_28 (dk_at dksX7_sign_0 11 rfl rfl)
theorem dX7_sign_12 : decode cX7_sign 12 = .ok (.bipush 61, 2) := dk_16 61 (dk_at dksX7_sign_0 12 rfl rfl)
theorem dX7_sign_14 : decode cX7_sign 14 = .ok (.if_icmp .ne 15, 3) := dk_160 0 15 (dk_at dksX7_sign_0 14 rfl rfl)
theorem dX7_sign_17 : decode cX7_sign 17 = .ok (.iload_n 1, 1) := dk_27 (dk_at dksX7_sign_0 17 rfl rfl)
theorem dX7_sign_18 : decode cX7_sign 18 = .ok (.bipush 60, 2) := dk_16 60 (dk_at dksX7_sign_0 18 rfl rfl)
theorem dX7_sign_20 : decode cX7_sign 20 = .ok (.if_icmp .eq 21, 3) := dk_159 0 21 (dk_at dksX7_sign_0 20 rfl rfl)
theorem dX7_sign_23 : decode cX7_sign 23 = .ok (.iload_n 1, 1) := dk_27 (dk_at dksX7_sign_0 23 rfl rfl)
theorem dX7_sign_24 : decode cX7_sign 24 = .ok (.bipush 62, 2) := dk_16 62 (dk_at dksX7_sign_1 0 rfl rfl)
theorem dX7_sign_26 : decode cX7_sign 26 = .ok (.if_icmp .eq 15, 3) := dk_159 0 15 (dk_at dksX7_sign_1 2 rfl rfl)
theorem dX7_sign_29 : decode cX7_sign 29 = .ok (.iload_n 1, 1) := dk_27 (dk_at dksX7_sign_1 5 rfl rfl)
theorem dX7_sign_30 : decode cX7_sign 30 = .ok (.bipush 60, 2) := dk_16 60 (dk_at dksX7_sign_1 6 rfl rfl)
theorem dX7_sign_32 : decode cX7_sign 32 = .ok (.if_icmp .ne 13, 3) := dk_160 0 13 (dk_at dksX7_sign_1 8 rfl rfl)
theorem dX7_sign_35 : decode cX7_sign 35 = .ok (.iload_n 2, 1) := dk_28 (dk_at dksX7_sign_1 11 rfl rfl)
theorem dX7_sign_36 : decode cX7_sign 36 = .ok (.bipush 62, 2) := dk_16 62 (dk_at dksX7_sign_1 12 rfl rfl)
theorem dX7_sign_38 : decode cX7_sign 38 = .ok (.if_icmp .ne 7, 3) := dk_160 0 7 (dk_at dksX7_sign_1 14 rfl rfl)
theorem dX7_sign_41 : decode cX7_sign 41 = .ok (.iconst 1, 1) := dk_4 (dk_at dksX7_sign_1 17 rfl rfl)
theorem dX7_sign_42 : decode cX7_sign 42 = .ok (.goto 4, 3) := dk_167 0 4 (dk_at dksX7_sign_1 18 rfl rfl)
theorem dX7_sign_45 : decode cX7_sign 45 = .ok (.iconst 0, 1) := dk_3 (dk_at dksX7_sign_1 21 rfl rfl)
theorem dX7_sign_46 : decode cX7_sign 46 = .ok (.istore_n 3, 1) := dk_62 (dk_at dksX7_sign_1 22 rfl rfl)
theorem dX7_sign_47 : decode cX7_sign 47 = .ok (.aload_n 0, 1) := dk_42 (dk_at dksX7_sign_1 23 rfl rfl)
theorem dX7_sign_48 : decode cX7_sign 48 = .ok (.iconst 3, 1) := dk_6 (dk_at dksX7_sign_2 0 rfl rfl)
theorem dX7_sign_49 : decode cX7_sign 49 = .ok (.putfield 46, 3) := dk_181 0 46 (dk_at dksX7_sign_2 1 rfl rfl)
theorem dX7_sign_52 : decode cX7_sign 52 = .ok (.aload_n 0, 1) := dk_42 (dk_at dksX7_sign_2 4 rfl rfl)
theorem dX7_sign_53 : decode cX7_sign 53 = .ok (.iload_n 3, 1) := dk_29 (dk_at dksX7_sign_2 5 rfl rfl)
theorem dX7_sign_54 : decode cX7_sign 54 = .ok (.ifCond .eq 13, 3) := dk_153 0 13 (dk_at dksX7_sign_2 6 rfl rfl)
theorem dX7_sign_57 : decode cX7_sign 57 = .ok (.sipush 256, 3) := dk_17 1 0 (dk_at dksX7_sign_2 9 rfl rfl)
theorem dX7_sign_60 : decode cX7_sign 60 = .ok (.iload_n 1, 1) := dk_27 (dk_at dksX7_sign_2 12 rfl rfl)
theorem dX7_sign_61 : decode cX7_sign 61 = .ok (.imul, 1) := dk_104 (dk_at dksX7_sign_2 13 rfl rfl)
theorem dX7_sign_62 : decode cX7_sign 62 = .ok (.iload_n 2, 1) := dk_28 (dk_at dksX7_sign_2 14 rfl rfl)
theorem dX7_sign_63 : decode cX7_sign 63 = .ok (.iadd, 1) := dk_96 (dk_at dksX7_sign_2 15 rfl rfl)
theorem dX7_sign_64 : decode cX7_sign 64 = .ok (.goto 4, 3) := dk_167 0 4 (dk_at dksX7_sign_2 16 rfl rfl)
theorem dX7_sign_67 : decode cX7_sign 67 = .ok (.iload_n 1, 1) := dk_27 (dk_at dksX7_sign_2 19 rfl rfl)
theorem dX7_sign_68 : decode cX7_sign 68 = .ok (.putfield 76, 3) := dk_181 0 76 (dk_at dksX7_sign_2 20 rfl rfl)
theorem dX7_sign_71 : decode cX7_sign 71 = .ok (.iload_n 1, 1) := dk_27 (dk_at dksX7_sign_2 23 rfl rfl)
theorem dX7_sign_72 : decode cX7_sign 72 = .ok (.bipush 59, 2) := dk_16 59 (dk_at dksX7_sign_3 0 rfl rfl)
theorem dX7_sign_74 : decode cX7_sign 74 = .ok (.if_icmp .eq 52, 3) := dk_159 0 52 (dk_at dksX7_sign_3 2 rfl rfl)
theorem dX7_sign_77 : decode cX7_sign 77 = .ok (.iload_n 1, 1) := dk_27 (dk_at dksX7_sign_3 5 rfl rfl)
theorem dX7_sign_78 : decode cX7_sign 78 = .ok (.bipush 44, 2) := dk_16 44 (dk_at dksX7_sign_3 6 rfl rfl)
theorem dX7_sign_80 : decode cX7_sign 80 = .ok (.if_icmp .eq 46, 3) := dk_159 0 46 (dk_at dksX7_sign_3 8 rfl rfl)
theorem dX7_sign_83 : decode cX7_sign 83 = .ok (.iload_n 1, 1) := dk_27 (dk_at dksX7_sign_3 11 rfl rfl)
theorem dX7_sign_84 : decode cX7_sign 84 = .ok (.bipush 40, 2) := dk_16 40 (dk_at dksX7_sign_3 12 rfl rfl)
theorem dX7_sign_86 : decode cX7_sign 86 = .ok (.if_icmp .eq 40, 3) := dk_159 0 40 (dk_at dksX7_sign_3 14 rfl rfl)
theorem dX7_sign_89 : decode cX7_sign 89 = .ok (.iload_n 1, 1) := dk_27 (dk_at dksX7_sign_3 17 rfl rfl)
theorem dX7_sign_90 : decode cX7_sign 90 = .ok (.bipush 41, 2) := dk_16 41 (dk_at dksX7_sign_3 18 rfl rfl)
theorem dX7_sign_92 : decode cX7_sign 92 = .ok (.if_icmp .eq 34, 3) := dk_159 0 34 (dk_at dksX7_sign_3 20 rfl rfl)
theorem dX7_sign_95 : decode cX7_sign 95 = .ok (.iload_n 1, 1) := dk_27 (dk_at dksX7_sign_3 23 rfl rfl)
theorem dX7_sign_96 : decode cX7_sign 96 = .ok (.bipush 61, 2) := dk_16 61 (dk_at dksX7_sign_4 0 rfl rfl)
theorem dX7_sign_98 : decode cX7_sign 98 = .ok (.if_icmp .eq 28, 3) := dk_159 0 28 (dk_at dksX7_sign_4 2 rfl rfl)
theorem dX7_sign_101 : decode cX7_sign 101 = .ok (.iload_n 1, 1) := dk_27 (dk_at dksX7_sign_4 5 rfl rfl)
theorem dX7_sign_102 : decode cX7_sign 102 = .ok (.bipush 60, 2) := dk_16 60 (dk_at dksX7_sign_4 6 rfl rfl)
theorem dX7_sign_104 : decode cX7_sign 104 = .ok (.if_icmp .eq 22, 3) := dk_159 0 22 (dk_at dksX7_sign_4 8 rfl rfl)
theorem dX7_sign_107 : decode cX7_sign 107 = .ok (.iload_n 1, 1) := dk_27 (dk_at dksX7_sign_4 11 rfl rfl)
theorem dX7_sign_108 : decode cX7_sign 108 = .ok (.bipush 62, 2) := dk_16 62 (dk_at dksX7_sign_4 12 rfl rfl)
theorem dX7_sign_110 : decode cX7_sign 110 = .ok (.if_icmp .eq 16, 3) := dk_159 0 16 (dk_at dksX7_sign_4 14 rfl rfl)
theorem dX7_sign_113 : decode cX7_sign 113 = .ok (.new 60, 3) := dk_187 0 60 (dk_at dksX7_sign_4 17 rfl rfl)
theorem dX7_sign_116 : decode cX7_sign 116 = .ok (.dup, 1) := dk_89 (dk_at dksX7_sign_4 20 rfl rfl)
theorem dX7_sign_117 : decode cX7_sign 117 = .ok (.iconst 1, 1) := dk_4 (dk_at dksX7_sign_4 21 rfl rfl)
theorem dX7_sign_118 : decode cX7_sign 118 = .ok (.aload_n 0, 1) := dk_42 (dk_at dksX7_sign_4 22 rfl rfl)
theorem dX7_sign_119 : decode cX7_sign 119 = .ok (.getfield 43, 3) := dk_180 0 43 (dk_at dksX7_sign_5 0 rfl rfl)
theorem dX7_sign_122 : decode cX7_sign 122 = .ok (.invokespecial 62, 3) := dk_183 0 62 (dk_at dksX7_sign_5 3 rfl rfl)
theorem dX7_sign_125 : decode cX7_sign 125 = .ok (.athrow, 1) := dk_191 (dk_at dksX7_sign_5 6 rfl rfl)
theorem dX7_sign_126 : decode cX7_sign 126 = .ok (.aload_n 0, 1) := dk_42 (dk_at dksX7_sign_5 7 rfl rfl)
theorem dX7_sign_127 : decode cX7_sign 127 = .ok (.dup, 1) := dk_89 (dk_at dksX7_sign_5 8 rfl rfl)
theorem dX7_sign_128 : decode cX7_sign 128 = .ok (.getfield 33, 3) := dk_180 0 33 (dk_at dksX7_sign_5 9 rfl rfl)
theorem dX7_sign_131 : decode cX7_sign 131 = .ok (.iload_n 3, 1) := dk_29 (dk_at dksX7_sign_5 12 rfl rfl)
theorem dX7_sign_132 : decode cX7_sign 132 = .ok (.ifCond .eq 7, 3) := dk_153 0 7 (dk_at dksX7_sign_5 13 rfl rfl)
theorem dX7_sign_135 : decode cX7_sign 135 = .ok (.iconst 2, 1) := dk_5 (dk_at dksX7_sign_5 16 rfl rfl)
theorem dX7_sign_136 : decode cX7_sign 136 = .ok (.goto 4, 3) := dk_167 0 4 (dk_at dksX7_sign_5 17 rfl rfl)
theorem dX7_sign_139 : decode cX7_sign 139 = .ok (.iconst 1, 1) := dk_4 (dk_at dksX7_sign_5 20 rfl rfl)
theorem dX7_sign_140 : decode cX7_sign 140 = .ok (.iadd, 1) := dk_96 (dk_at dksX7_sign_5 21 rfl rfl)
theorem dX7_sign_141 : decode cX7_sign 141 = .ok (.putfield 33, 3) := dk_181 0 33 (dk_at dksX7_sign_6 0 rfl rfl)
theorem dX7_sign_144 : decode cX7_sign 144 = .ok (.return_, 1) := dk_177 (dk_at dksX7_sign_6 3 rfl rfl)
abbrev cX7_wording : ByteArray := prog_18_method_32_code
def yX7_wording : MethodName := ⟨RX7, "wording", "()V"⟩
def dkwX7_wording_0 : List UInt8 := [42, 180, 0, 46, 153, 0, 10, 42, 182, 1, 91, 167, 255, 245, 177]
abbrev dktX7_wording_0 : List UInt8 := dkwX7_wording_0 ++ []
theorem dksX7_wording_0 : cX7_wording.data.toList.drop 0 = dktX7_wording_0 := by decide +kernel
theorem dX7_wording_0 : decode cX7_wording 0 = .ok (.aload_n 0, 1) := dk_42 (dk_at dksX7_wording_0 0 rfl rfl)
theorem dX7_wording_1 : decode cX7_wording 1 = .ok (.getfield 46, 3) := dk_180 0 46 (dk_at dksX7_wording_0 1 rfl rfl)
theorem dX7_wording_4 : decode cX7_wording 4 = .ok (.ifCond .eq 10, 3) := dk_153 0 10 (dk_at dksX7_wording_0 4 rfl rfl)
theorem dX7_wording_7 : decode cX7_wording 7 = .ok (.aload_n 0, 1) := dk_42 (dk_at dksX7_wording_0 7 rfl rfl)
theorem dX7_wording_8 : decode cX7_wording 8 = .ok (.invokevirtual 347, 3) := dk_182 1 91 (dk_at dksX7_wording_0 8 rfl rfl)
theorem dX7_wording_11 : decode cX7_wording 11 = .ok (.goto (-11), 3) := dk_167 255 245 (dk_at dksX7_wording_0 11 rfl rfl)
theorem dX7_wording_14 : decode cX7_wording 14 = .ok (.return_, 1) := dk_177 (dk_at dksX7_wording_0 14 rfl rfl)
abbrev cX7_item : ByteArray := prog_18_method_31_code
def yX7_item : MethodName := ⟨RX7, "item", "()V"⟩
def dkwX7_item_9 : List UInt8 := [191, 42, 27, 182, 1, 88, 177]
abbrev dktX7_item_9 : List UInt8 := dkwX7_item_9 ++ []
def dkwX7_item_8 : List UInt8 := [182, 1, 85, 167, 0, 4, 2, 60, 27, 156, 0, 16, 187, 0, 60, 89, 5, 42, 180, 0, 43, 183, 0, 62]
abbrev dktX7_item_8 : List UInt8 := dkwX7_item_8 ++ dktX7_item_9
def dkwX7_item_7 : List UInt8 := [182, 0, 99, 153, 0, 10, 42, 182, 1, 83, 167, 0, 42, 42, 180, 0, 46, 7, 160, 0, 10, 42]
abbrev dktX7_item_7 : List UInt8 := dkwX7_item_7 ++ dktX7_item_8
def dkwX7_item_6 : List UInt8 := [180, 0, 15, 180, 1, 78, 17, 3, 232, 182, 1, 73, 181, 1, 78, 167, 0, 59, 42, 20, 1, 81]
abbrev dktX7_item_6 : List UInt8 := dkwX7_item_6 ++ dktX7_item_7
def dkwX7_item_5 : List UInt8 := [181, 1, 70, 167, 0, 93, 42, 20, 1, 76, 182, 0, 99, 153, 0, 27, 42, 180, 0, 15, 42, 42]
abbrev dktX7_item_5 : List UInt8 := dkwX7_item_5 ++ dktX7_item_6
def dkwX7_item_4 : List UInt8 := [182, 0, 99, 153, 0, 27, 42, 180, 0, 15, 42, 42, 180, 0, 15, 180, 1, 70, 19, 1, 12, 182, 1, 73]
abbrev dktX7_item_4 : List UInt8 := dkwX7_item_4 ++ dktX7_item_5
def dkwX7_item_3 : List UInt8 := [42, 180, 0, 15, 180, 1, 61, 42, 182, 1, 64, 185, 0, 111, 2, 0, 87, 167, 0, 127, 42, 20, 1, 68]
abbrev dktX7_item_3 : List UInt8 := dkwX7_item_3 ++ dktX7_item_4
def dkwX7_item_2 : List UInt8 := [185, 0, 223, 1, 0, 16, 24, 160, 0, 17, 187, 0, 60, 89, 16, 6, 42, 180, 0, 43, 183, 0, 62, 191]
abbrev dktX7_item_2 : List UInt8 := dkwX7_item_2 ++ dktX7_item_3
def dkwX7_item_1 : List UInt8 := [153, 0, 10, 42, 182, 1, 55, 167, 0, 185, 42, 182, 1, 57, 153, 0, 54, 42, 180, 0, 15, 180, 1, 61]
abbrev dktX7_item_1 : List UInt8 := dkwX7_item_1 ++ dktX7_item_2
def dkwX7_item_0 : List UInt8 := [42, 20, 1, 49, 182, 0, 99, 153, 0, 10, 42, 182, 1, 51, 167, 0, 202, 42, 20, 1, 53, 182, 0, 99]
abbrev dktX7_item_0 : List UInt8 := dkwX7_item_0 ++ dktX7_item_1
theorem dksX7_item_0 : cX7_item.data.toList.drop 0 = dktX7_item_0 := by decide +kernel
theorem dksX7_item_1 : cX7_item.data.toList.drop 24 = dktX7_item_1 := dk_seg dksX7_item_0 24 rfl rfl
theorem dksX7_item_2 : cX7_item.data.toList.drop 48 = dktX7_item_2 := dk_seg dksX7_item_1 24 rfl rfl
theorem dksX7_item_3 : cX7_item.data.toList.drop 72 = dktX7_item_3 := dk_seg dksX7_item_2 24 rfl rfl
theorem dksX7_item_4 : cX7_item.data.toList.drop 96 = dktX7_item_4 := dk_seg dksX7_item_3 24 rfl rfl
theorem dksX7_item_5 : cX7_item.data.toList.drop 120 = dktX7_item_5 := dk_seg dksX7_item_4 24 rfl rfl
theorem dksX7_item_6 : cX7_item.data.toList.drop 142 = dktX7_item_6 := dk_seg dksX7_item_5 22 rfl rfl
theorem dksX7_item_7 : cX7_item.data.toList.drop 164 = dktX7_item_7 := dk_seg dksX7_item_6 22 rfl rfl
theorem dksX7_item_8 : cX7_item.data.toList.drop 186 = dktX7_item_8 := dk_seg dksX7_item_7 22 rfl rfl
theorem dksX7_item_9 : cX7_item.data.toList.drop 210 = dktX7_item_9 := dk_seg dksX7_item_8 24 rfl rfl
theorem dX7_item_0 : decode cX7_item 0 = .ok (.aload_n 0, 1) := dk_42 (dk_at dksX7_item_0 0 rfl rfl)
theorem dX7_item_1 : decode cX7_item 1 = .ok (.ldc2_w 305, 3) := dk_20 1 49 (dk_at dksX7_item_0 1 rfl rfl)
theorem dX7_item_4 : decode cX7_item 4 = .ok (.invokevirtual 99, 3) := dk_182 0 99 (dk_at dksX7_item_0 4 rfl rfl)
theorem dX7_item_7 : decode cX7_item 7 = .ok (.ifCond .eq 10, 3) := dk_153 0 10 (dk_at dksX7_item_0 7 rfl rfl)
theorem dX7_item_10 : decode cX7_item 10 = .ok (.aload_n 0, 1) := dk_42 (dk_at dksX7_item_0 10 rfl rfl)
theorem dX7_item_11 : decode cX7_item 11 = .ok (.invokevirtual 307, 3) := dk_182 1 51 (dk_at dksX7_item_0 11 rfl rfl)
theorem dX7_item_14 : decode cX7_item 14 = .ok (.goto 202, 3) := dk_167 0 202 (dk_at dksX7_item_0 14 rfl rfl)
theorem dX7_item_17 : decode cX7_item 17 = .ok (.aload_n 0, 1) := dk_42 (dk_at dksX7_item_0 17 rfl rfl)
theorem dX7_item_18 : decode cX7_item 18 = .ok (.ldc2_w 309, 3) := dk_20 1 53 (dk_at dksX7_item_0 18 rfl rfl)
theorem dX7_item_21 : decode cX7_item 21 = .ok (.invokevirtual 99, 3) := dk_182 0 99 (dk_at dksX7_item_0 21 rfl rfl)
theorem dX7_item_24 : decode cX7_item 24 = .ok (.ifCond .eq 10, 3) := dk_153 0 10 (dk_at dksX7_item_1 0 rfl rfl)
theorem dX7_item_27 : decode cX7_item 27 = .ok (.aload_n 0, 1) := dk_42 (dk_at dksX7_item_1 3 rfl rfl)
theorem dX7_item_28 : decode cX7_item 28 = .ok (.invokevirtual 311, 3) := dk_182 1 55 (dk_at dksX7_item_1 4 rfl rfl)
theorem dX7_item_31 : decode cX7_item 31 = .ok (.goto 185, 3) := dk_167 0 185 (dk_at dksX7_item_1 7 rfl rfl)
theorem dX7_item_34 : decode cX7_item 34 = .ok (.aload_n 0, 1) := dk_42 (dk_at dksX7_item_1 10 rfl rfl)
theorem dX7_item_35 : decode cX7_item 35 = .ok (.invokevirtual 313, 3) := dk_182 1 57 (dk_at dksX7_item_1 11 rfl rfl)
theorem dX7_item_38 : decode cX7_item 38 = .ok (.ifCond .eq 54, 3) := dk_153 0 54 (dk_at dksX7_item_1 14 rfl rfl)
theorem dX7_item_41 : decode cX7_item 41 = .ok (.aload_n 0, 1) := dk_42 (dk_at dksX7_item_1 17 rfl rfl)
theorem dX7_item_42 : decode cX7_item 42 = .ok (.getfield 15, 3) := dk_180 0 15 (dk_at dksX7_item_1 18 rfl rfl)
theorem dX7_item_45 : decode cX7_item 45 = .ok (.getfield 317, 3) := dk_180 1 61 (dk_at dksX7_item_1 21 rfl rfl)
theorem dX7_item_48 : decode cX7_item 48 = .ok (.invokeinterface 223 1, 5) := by decide +kernel
theorem dX7_item_53 : decode cX7_item 53 = .ok (.bipush 24, 2) := dk_16 24 (dk_at dksX7_item_2 5 rfl rfl)
theorem dX7_item_55 : decode cX7_item 55 = .ok (.if_icmp .ne 17, 3) := dk_160 0 17 (dk_at dksX7_item_2 7 rfl rfl)
theorem dX7_item_58 : decode cX7_item 58 = .ok (.new 60, 3) := dk_187 0 60 (dk_at dksX7_item_2 10 rfl rfl)
theorem dX7_item_61 : decode cX7_item 61 = .ok (.dup, 1) := dk_89 (dk_at dksX7_item_2 13 rfl rfl)
theorem dX7_item_62 : decode cX7_item 62 = .ok (.bipush 6, 2) := dk_16 6 (dk_at dksX7_item_2 14 rfl rfl)
theorem dX7_item_64 : decode cX7_item 64 = .ok (.aload_n 0, 1) := dk_42 (dk_at dksX7_item_2 16 rfl rfl)
theorem dX7_item_65 : decode cX7_item 65 = .ok (.getfield 43, 3) := dk_180 0 43 (dk_at dksX7_item_2 17 rfl rfl)
theorem dX7_item_68 : decode cX7_item 68 = .ok (.invokespecial 62, 3) := dk_183 0 62 (dk_at dksX7_item_2 20 rfl rfl)
theorem dX7_item_71 : decode cX7_item 71 = .ok (.athrow, 1) := dk_191 (dk_at dksX7_item_2 23 rfl rfl)
theorem dX7_item_72 : decode cX7_item 72 = .ok (.aload_n 0, 1) := dk_42 (dk_at dksX7_item_3 0 rfl rfl)
theorem dX7_item_73 : decode cX7_item 73 = .ok (.getfield 15, 3) := dk_180 0 15 (dk_at dksX7_item_3 1 rfl rfl)
theorem dX7_item_76 : decode cX7_item 76 = .ok (.getfield 317, 3) := dk_180 1 61 (dk_at dksX7_item_3 4 rfl rfl)
theorem dX7_item_79 : decode cX7_item 79 = .ok (.aload_n 0, 1) := dk_42 (dk_at dksX7_item_3 7 rfl rfl)
theorem dX7_item_80 : decode cX7_item 80 = .ok (.invokevirtual 320, 3) := dk_182 1 64 (dk_at dksX7_item_3 8 rfl rfl)
theorem dX7_item_83 : decode cX7_item 83 = .ok (.invokeinterface 111 2, 5) := by decide +kernel
theorem dX7_item_88 : decode cX7_item 88 = .ok (.pop, 1) := dk_87 (dk_at dksX7_item_3 16 rfl rfl)
theorem dX7_item_89 : decode cX7_item 89 = .ok (.goto 127, 3) := dk_167 0 127 (dk_at dksX7_item_3 17 rfl rfl)
theorem dX7_item_92 : decode cX7_item 92 = .ok (.aload_n 0, 1) := dk_42 (dk_at dksX7_item_3 20 rfl rfl)
theorem dX7_item_93 : decode cX7_item 93 = .ok (.ldc2_w 324, 3) := dk_20 1 68 (dk_at dksX7_item_3 21 rfl rfl)
theorem dX7_item_96 : decode cX7_item 96 = .ok (.invokevirtual 99, 3) := dk_182 0 99 (dk_at dksX7_item_4 0 rfl rfl)
theorem dX7_item_99 : decode cX7_item 99 = .ok (.ifCond .eq 27, 3) := dk_153 0 27 (dk_at dksX7_item_4 3 rfl rfl)
theorem dX7_item_102 : decode cX7_item 102 = .ok (.aload_n 0, 1) := dk_42 (dk_at dksX7_item_4 6 rfl rfl)
theorem dX7_item_103 : decode cX7_item 103 = .ok (.getfield 15, 3) := dk_180 0 15 (dk_at dksX7_item_4 7 rfl rfl)
theorem dX7_item_106 : decode cX7_item 106 = .ok (.aload_n 0, 1) := dk_42 (dk_at dksX7_item_4 10 rfl rfl)
theorem dX7_item_107 : decode cX7_item 107 = .ok (.aload_n 0, 1) := dk_42 (dk_at dksX7_item_4 11 rfl rfl)
theorem dX7_item_108 : decode cX7_item 108 = .ok (.getfield 15, 3) := dk_180 0 15 (dk_at dksX7_item_4 12 rfl rfl)
theorem dX7_item_111 : decode cX7_item 111 = .ok (.getfield 326, 3) := dk_180 1 70 (dk_at dksX7_item_4 15 rfl rfl)
theorem dX7_item_114 : decode cX7_item 114 = .ok (.ldc_w 268, 3) := dk_19 1 12 (dk_at dksX7_item_4 18 rfl rfl)
theorem dX7_item_117 : decode cX7_item 117 = .ok (.invokevirtual 329, 3) := dk_182 1 73 (dk_at dksX7_item_4 21 rfl rfl)
theorem dX7_item_120 : decode cX7_item 120 = .ok (.putfield 326, 3) := dk_181 1 70 (dk_at dksX7_item_5 0 rfl rfl)
theorem dX7_item_123 : decode cX7_item 123 = .ok (.goto 93, 3) := dk_167 0 93 (dk_at dksX7_item_5 3 rfl rfl)
theorem dX7_item_126 : decode cX7_item 126 = .ok (.aload_n 0, 1) := dk_42 (dk_at dksX7_item_5 6 rfl rfl)
theorem dX7_item_127 : decode cX7_item 127 = .ok (.ldc2_w 332, 3) := dk_20 1 76 (dk_at dksX7_item_5 7 rfl rfl)
theorem dX7_item_130 : decode cX7_item 130 = .ok (.invokevirtual 99, 3) := dk_182 0 99 (dk_at dksX7_item_5 10 rfl rfl)
theorem dX7_item_133 : decode cX7_item 133 = .ok (.ifCond .eq 27, 3) := dk_153 0 27 (dk_at dksX7_item_5 13 rfl rfl)
theorem dX7_item_136 : decode cX7_item 136 = .ok (.aload_n 0, 1) := dk_42 (dk_at dksX7_item_5 16 rfl rfl)
theorem dX7_item_137 : decode cX7_item 137 = .ok (.getfield 15, 3) := dk_180 0 15 (dk_at dksX7_item_5 17 rfl rfl)
theorem dX7_item_140 : decode cX7_item 140 = .ok (.aload_n 0, 1) := dk_42 (dk_at dksX7_item_5 20 rfl rfl)
theorem dX7_item_141 : decode cX7_item 141 = .ok (.aload_n 0, 1) := dk_42 (dk_at dksX7_item_5 21 rfl rfl)
theorem dX7_item_142 : decode cX7_item 142 = .ok (.getfield 15, 3) := dk_180 0 15 (dk_at dksX7_item_6 0 rfl rfl)
theorem dX7_item_145 : decode cX7_item 145 = .ok (.getfield 334, 3) := dk_180 1 78 (dk_at dksX7_item_6 3 rfl rfl)
theorem dX7_item_148 : decode cX7_item 148 = .ok (.sipush 1000, 3) := dk_17 3 232 (dk_at dksX7_item_6 6 rfl rfl)
theorem dX7_item_151 : decode cX7_item 151 = .ok (.invokevirtual 329, 3) := dk_182 1 73 (dk_at dksX7_item_6 9 rfl rfl)
theorem dX7_item_154 : decode cX7_item 154 = .ok (.putfield 334, 3) := dk_181 1 78 (dk_at dksX7_item_6 12 rfl rfl)
theorem dX7_item_157 : decode cX7_item 157 = .ok (.goto 59, 3) := dk_167 0 59 (dk_at dksX7_item_6 15 rfl rfl)
theorem dX7_item_160 : decode cX7_item 160 = .ok (.aload_n 0, 1) := dk_42 (dk_at dksX7_item_6 18 rfl rfl)
theorem dX7_item_161 : decode cX7_item 161 = .ok (.ldc2_w 337, 3) := dk_20 1 81 (dk_at dksX7_item_6 19 rfl rfl)
theorem dX7_item_164 : decode cX7_item 164 = .ok (.invokevirtual 99, 3) := dk_182 0 99 (dk_at dksX7_item_7 0 rfl rfl)
theorem dX7_item_167 : decode cX7_item 167 = .ok (.ifCond .eq 10, 3) := dk_153 0 10 (dk_at dksX7_item_7 3 rfl rfl)
theorem dX7_item_170 : decode cX7_item 170 = .ok (.aload_n 0, 1) := dk_42 (dk_at dksX7_item_7 6 rfl rfl)
theorem dX7_item_171 : decode cX7_item 171 = .ok (.invokevirtual 339, 3) := dk_182 1 83 (dk_at dksX7_item_7 7 rfl rfl)
theorem dX7_item_174 : decode cX7_item 174 = .ok (.goto 42, 3) := dk_167 0 42 (dk_at dksX7_item_7 10 rfl rfl)
theorem dX7_item_177 : decode cX7_item 177 = .ok (.aload_n 0, 1) := dk_42 (dk_at dksX7_item_7 13 rfl rfl)
theorem dX7_item_178 : decode cX7_item 178 = .ok (.getfield 46, 3) := dk_180 0 46 (dk_at dksX7_item_7 14 rfl rfl)
theorem dX7_item_181 : decode cX7_item 181 = .ok (.iconst 4, 1) := dk_7 (dk_at dksX7_item_7 17 rfl rfl)
theorem dX7_item_182 : decode cX7_item 182 = .ok (.if_icmp .ne 10, 3) := dk_160 0 10 (dk_at dksX7_item_7 18 rfl rfl)
theorem dX7_item_185 : decode cX7_item 185 = .ok (.aload_n 0, 1) := dk_42 (dk_at dksX7_item_7 21 rfl rfl)
theorem dX7_item_186 : decode cX7_item 186 = .ok (.invokevirtual 341, 3) := dk_182 1 85 (dk_at dksX7_item_8 0 rfl rfl)
theorem dX7_item_189 : decode cX7_item 189 = .ok (.goto 4, 3) := dk_167 0 4 (dk_at dksX7_item_8 3 rfl rfl)
theorem dX7_item_192 : decode cX7_item 192 = .ok (.iconst (-1), 1) := dk_2 (dk_at dksX7_item_8 6 rfl rfl)
theorem dX7_item_193 : decode cX7_item 193 = .ok (.istore_n 1, 1) := dk_60 (dk_at dksX7_item_8 7 rfl rfl)
theorem dX7_item_194 : decode cX7_item 194 = .ok (.iload_n 1, 1) := dk_27 (dk_at dksX7_item_8 8 rfl rfl)
theorem dX7_item_195 : decode cX7_item 195 = .ok (.ifCond .ge 16, 3) := dk_156 0 16 (dk_at dksX7_item_8 9 rfl rfl)
theorem dX7_item_198 : decode cX7_item 198 = .ok (.new 60, 3) := dk_187 0 60 (dk_at dksX7_item_8 12 rfl rfl)
theorem dX7_item_201 : decode cX7_item 201 = .ok (.dup, 1) := dk_89 (dk_at dksX7_item_8 15 rfl rfl)
theorem dX7_item_202 : decode cX7_item 202 = .ok (.iconst 2, 1) := dk_5 (dk_at dksX7_item_8 16 rfl rfl)
theorem dX7_item_203 : decode cX7_item 203 = .ok (.aload_n 0, 1) := dk_42 (dk_at dksX7_item_8 17 rfl rfl)
theorem dX7_item_204 : decode cX7_item 204 = .ok (.getfield 43, 3) := dk_180 0 43 (dk_at dksX7_item_8 18 rfl rfl)
theorem dX7_item_207 : decode cX7_item 207 = .ok (.invokespecial 62, 3) := dk_183 0 62 (dk_at dksX7_item_8 21 rfl rfl)
theorem dX7_item_210 : decode cX7_item 210 = .ok (.athrow, 1) := dk_191 (dk_at dksX7_item_9 0 rfl rfl)
theorem dX7_item_211 : decode cX7_item 211 = .ok (.aload_n 0, 1) := dk_42 (dk_at dksX7_item_9 1 rfl rfl)
theorem dX7_item_212 : decode cX7_item 212 = .ok (.iload_n 1, 1) := dk_27 (dk_at dksX7_item_9 2 rfl rfl)
theorem dX7_item_213 : decode cX7_item 213 = .ok (.invokevirtual 344, 3) := dk_182 1 88 (dk_at dksX7_item_9 3 rfl rfl)
theorem dX7_item_216 : decode cX7_item 216 = .ok (.return_, 1) := dk_177 (dk_at dksX7_item_9 6 rfl rfl)
abbrev cX7_is : ByteArray := prog_18_method_9_code
def yX7_is : MethodName := ⟨RX7, "is", "(J)Z"⟩
def dkwX7_is_0 : List UInt8 := [42, 180, 0, 46, 7, 160, 0, 16, 42, 180, 0, 53, 31, 148, 154, 0, 7, 4, 167, 0, 4, 3, 172]
abbrev dktX7_is_0 : List UInt8 := dkwX7_is_0 ++ []
theorem dksX7_is_0 : cX7_is.data.toList.drop 0 = dktX7_is_0 := by decide +kernel
theorem dX7_is_0 : decode cX7_is 0 = .ok (.aload_n 0, 1) := dk_42 (dk_at dksX7_is_0 0 rfl rfl)
theorem dX7_is_1 : decode cX7_is 1 = .ok (.getfield 46, 3) := dk_180 0 46 (dk_at dksX7_is_0 1 rfl rfl)
theorem dX7_is_4 : decode cX7_is 4 = .ok (.iconst 4, 1) := dk_7 (dk_at dksX7_is_0 4 rfl rfl)
theorem dX7_is_5 : decode cX7_is 5 = .ok (.if_icmp .ne 16, 3) := dk_160 0 16 (dk_at dksX7_is_0 5 rfl rfl)
theorem dX7_is_8 : decode cX7_is 8 = .ok (.aload_n 0, 1) := dk_42 (dk_at dksX7_is_0 8 rfl rfl)
theorem dX7_is_9 : decode cX7_is 9 = .ok (.getfield 53, 3) := dk_180 0 53 (dk_at dksX7_is_0 9 rfl rfl)
theorem dX7_is_12 : decode cX7_is 12 = .ok (.lload_n 1, 1) := dk_31 (dk_at dksX7_is_0 12 rfl rfl)
theorem dX7_is_13 : decode cX7_is 13 = .ok (.lcmp, 1) := dk_148 (dk_at dksX7_is_0 13 rfl rfl)
theorem dX7_is_14 : decode cX7_is 14 = .ok (.ifCond .ne 7, 3) := dk_154 0 7 (dk_at dksX7_is_0 14 rfl rfl)
theorem dX7_is_17 : decode cX7_is 17 = .ok (.iconst 1, 1) := dk_4 (dk_at dksX7_is_0 17 rfl rfl)
theorem dX7_is_18 : decode cX7_is 18 = .ok (.goto 4, 3) := dk_167 0 4 (dk_at dksX7_is_0 18 rfl rfl)
theorem dX7_is_21 : decode cX7_is 21 = .ok (.iconst 0, 1) := dk_3 (dk_at dksX7_is_0 21 rfl rfl)
theorem dX7_is_22 : decode cX7_is 22 = .ok (.ireturn, 1) := dk_172 (dk_at dksX7_is_0 22 rfl rfl)
abbrev cX7_fact : ByteArray := prog_18_method_23_code
def yX7_fact : MethodName := ⟨RX7, "fact", "()V"⟩
def dkwX7_fact_9 : List UInt8 := [185, 0, 111, 2, 0, 87, 177]
abbrev dktX7_fact_9 : List UInt8 := dkwX7_fact_9 ++ []
def dkwX7_fact_8 : List UInt8 := [180, 0, 43, 183, 0, 62, 191, 42, 16, 59, 182, 0, 136, 42, 180, 0, 15, 180, 0, 155, 45]
abbrev dktX7_fact_8 : List UInt8 := dkwX7_fact_8 ++ dktX7_fact_9
def dkwX7_fact_7 : List UInt8 := [42, 45, 180, 0, 240, 4, 96, 18, 185, 182, 0, 186, 181, 0, 245, 167, 0, 16, 187, 0, 60, 89, 5, 42]
abbrev dktX7_fact_7 : List UInt8 := dkwX7_fact_7 ++ dktX7_fact_8
def dkwX7_fact_6 : List UInt8 := [182, 0, 99, 154, 0, 16, 187, 0, 60, 89, 5, 42, 180, 0, 43, 183, 0, 62, 191, 42, 182, 0, 23, 45]
abbrev dktX7_fact_6 : List UInt8 := dkwX7_fact_6 ++ dktX7_fact_7
def dkwX7_fact_5 : List UInt8 := [183, 0, 229, 78, 42, 182, 0, 23, 45, 42, 3, 18, 185, 182, 0, 186, 181, 0, 240, 42, 20, 0, 243]
abbrev dktX7_fact_5 : List UInt8 := dkwX7_fact_5 ++ dktX7_fact_6
def dkwX7_fact_4 : List UInt8 := [45, 182, 0, 234, 167, 0, 97, 42, 20, 0, 238, 182, 0, 99, 153, 0, 74, 187, 0, 162, 89, 31, 5]
abbrev dktX7_fact_4 : List UInt8 := dkwX7_fact_4 ++ dktX7_fact_5
def dkwX7_fact_3 : List UInt8 := [167, 0, 125, 42, 20, 0, 232, 182, 0, 99, 153, 0, 21, 187, 0, 162, 89, 31, 4, 183, 0, 229, 78, 42]
abbrev dktX7_fact_3 : List UInt8 := dkwX7_fact_3 ++ dktX7_fact_4
def dkwX7_fact_2 : List UInt8 := [20, 0, 227, 182, 0, 99, 153, 0, 20, 187, 0, 162, 89, 31, 3, 183, 0, 229, 78, 42, 182, 0, 23]
abbrev dktX7_fact_2 : List UInt8 := dkwX7_fact_2 ++ dktX7_fact_3
def dkwX7_fact_1 : List UInt8 := [160, 0, 17, 187, 0, 60, 89, 16, 6, 42, 180, 0, 43, 183, 0, 62, 191, 42, 182, 0, 23, 42]
abbrev dktX7_fact_1 : List UInt8 := dkwX7_fact_1 ++ dktX7_fact_2
def dkwX7_fact_0 : List UInt8 := [42, 182, 0, 23, 42, 182, 0, 219, 64, 42, 180, 0, 15, 180, 0, 155, 185, 0, 223, 1, 0, 16, 8]
abbrev dktX7_fact_0 : List UInt8 := dkwX7_fact_0 ++ dktX7_fact_1
theorem dksX7_fact_0 : cX7_fact.data.toList.drop 0 = dktX7_fact_0 := by decide +kernel
theorem dksX7_fact_1 : cX7_fact.data.toList.drop 23 = dktX7_fact_1 := dk_seg dksX7_fact_0 23 rfl rfl
theorem dksX7_fact_2 : cX7_fact.data.toList.drop 45 = dktX7_fact_2 := dk_seg dksX7_fact_1 22 rfl rfl
theorem dksX7_fact_3 : cX7_fact.data.toList.drop 68 = dktX7_fact_3 := dk_seg dksX7_fact_2 23 rfl rfl
theorem dksX7_fact_4 : cX7_fact.data.toList.drop 92 = dktX7_fact_4 := dk_seg dksX7_fact_3 24 rfl rfl
theorem dksX7_fact_5 : cX7_fact.data.toList.drop 115 = dktX7_fact_5 := dk_seg dksX7_fact_4 23 rfl rfl
theorem dksX7_fact_6 : cX7_fact.data.toList.drop 138 = dktX7_fact_6 := dk_seg dksX7_fact_5 23 rfl rfl
theorem dksX7_fact_7 : cX7_fact.data.toList.drop 162 = dktX7_fact_7 := dk_seg dksX7_fact_6 24 rfl rfl
theorem dksX7_fact_8 : cX7_fact.data.toList.drop 186 = dktX7_fact_8 := dk_seg dksX7_fact_7 24 rfl rfl
theorem dksX7_fact_9 : cX7_fact.data.toList.drop 207 = dktX7_fact_9 := dk_seg dksX7_fact_8 21 rfl rfl
theorem dX7_fact_0 : decode cX7_fact 0 = .ok (.aload_n 0, 1) := dk_42 (dk_at dksX7_fact_0 0 rfl rfl)
theorem dX7_fact_1 : decode cX7_fact 1 = .ok (.invokevirtual 23, 3) := dk_182 0 23 (dk_at dksX7_fact_0 1 rfl rfl)
theorem dX7_fact_4 : decode cX7_fact 4 = .ok (.aload_n 0, 1) := dk_42 (dk_at dksX7_fact_0 4 rfl rfl)
theorem dX7_fact_5 : decode cX7_fact 5 = .ok (.invokevirtual 219, 3) := dk_182 0 219 (dk_at dksX7_fact_0 5 rfl rfl)
theorem dX7_fact_8 : decode cX7_fact 8 = .ok (.lstore_n 1, 1) := dk_64 (dk_at dksX7_fact_0 8 rfl rfl)
theorem dX7_fact_9 : decode cX7_fact 9 = .ok (.aload_n 0, 1) := dk_42 (dk_at dksX7_fact_0 9 rfl rfl)
theorem dX7_fact_10 : decode cX7_fact 10 = .ok (.getfield 15, 3) := dk_180 0 15 (dk_at dksX7_fact_0 10 rfl rfl)
theorem dX7_fact_13 : decode cX7_fact 13 = .ok (.getfield 155, 3) := dk_180 0 155 (dk_at dksX7_fact_0 13 rfl rfl)
theorem dX7_fact_16 : decode cX7_fact 16 = .ok (.invokeinterface 223 1, 5) := by decide +kernel
theorem dX7_fact_21 : decode cX7_fact 21 = .ok (.bipush 8, 2) := dk_16 8 (dk_at dksX7_fact_0 21 rfl rfl)
theorem dX7_fact_23 : decode cX7_fact 23 = .ok (.if_icmp .ne 17, 3) := dk_160 0 17 (dk_at dksX7_fact_1 0 rfl rfl)
theorem dX7_fact_26 : decode cX7_fact 26 = .ok (.new 60, 3) := dk_187 0 60 (dk_at dksX7_fact_1 3 rfl rfl)
theorem dX7_fact_29 : decode cX7_fact 29 = .ok (.dup, 1) := dk_89 (dk_at dksX7_fact_1 6 rfl rfl)
theorem dX7_fact_30 : decode cX7_fact 30 = .ok (.bipush 6, 2) := dk_16 6 (dk_at dksX7_fact_1 7 rfl rfl)
theorem dX7_fact_32 : decode cX7_fact 32 = .ok (.aload_n 0, 1) := dk_42 (dk_at dksX7_fact_1 9 rfl rfl)
theorem dX7_fact_33 : decode cX7_fact 33 = .ok (.getfield 43, 3) := dk_180 0 43 (dk_at dksX7_fact_1 10 rfl rfl)
theorem dX7_fact_36 : decode cX7_fact 36 = .ok (.invokespecial 62, 3) := dk_183 0 62 (dk_at dksX7_fact_1 13 rfl rfl)
theorem dX7_fact_39 : decode cX7_fact 39 = .ok (.athrow, 1) := dk_191 (dk_at dksX7_fact_1 16 rfl rfl)
theorem dX7_fact_40 : decode cX7_fact 40 = .ok (.aload_n 0, 1) := dk_42 (dk_at dksX7_fact_1 17 rfl rfl)
theorem dX7_fact_41 : decode cX7_fact 41 = .ok (.invokevirtual 23, 3) := dk_182 0 23 (dk_at dksX7_fact_1 18 rfl rfl)
theorem dX7_fact_44 : decode cX7_fact 44 = .ok (.aload_n 0, 1) := dk_42 (dk_at dksX7_fact_1 21 rfl rfl)
theorem dX7_fact_45 : decode cX7_fact 45 = .ok (.ldc2_w 227, 3) := dk_20 0 227 (dk_at dksX7_fact_2 0 rfl rfl)
theorem dX7_fact_48 : decode cX7_fact 48 = .ok (.invokevirtual 99, 3) := dk_182 0 99 (dk_at dksX7_fact_2 3 rfl rfl)
theorem dX7_fact_51 : decode cX7_fact 51 = .ok (.ifCond .eq 20, 3) := dk_153 0 20 (dk_at dksX7_fact_2 6 rfl rfl)
theorem dX7_fact_54 : decode cX7_fact 54 = .ok (.new 162, 3) := dk_187 0 162 (dk_at dksX7_fact_2 9 rfl rfl)
theorem dX7_fact_57 : decode cX7_fact 57 = .ok (.dup, 1) := dk_89 (dk_at dksX7_fact_2 12 rfl rfl)
theorem dX7_fact_58 : decode cX7_fact 58 = .ok (.lload_n 1, 1) := dk_31 (dk_at dksX7_fact_2 13 rfl rfl)
theorem dX7_fact_59 : decode cX7_fact 59 = .ok (.iconst 0, 1) := dk_3 (dk_at dksX7_fact_2 14 rfl rfl)
theorem dX7_fact_60 : decode cX7_fact 60 = .ok (.invokespecial 229, 3) := dk_183 0 229 (dk_at dksX7_fact_2 15 rfl rfl)
theorem dX7_fact_63 : decode cX7_fact 63 = .ok (.astore_n 3, 1) := dk_78 (dk_at dksX7_fact_2 18 rfl rfl)
theorem dX7_fact_64 : decode cX7_fact 64 = .ok (.aload_n 0, 1) := dk_42 (dk_at dksX7_fact_2 19 rfl rfl)
theorem dX7_fact_65 : decode cX7_fact 65 = .ok (.invokevirtual 23, 3) := dk_182 0 23 (dk_at dksX7_fact_2 20 rfl rfl)
theorem dX7_fact_68 : decode cX7_fact 68 = .ok (.goto 125, 3) := dk_167 0 125 (dk_at dksX7_fact_3 0 rfl rfl)
theorem dX7_fact_71 : decode cX7_fact 71 = .ok (.aload_n 0, 1) := dk_42 (dk_at dksX7_fact_3 3 rfl rfl)
theorem dX7_fact_72 : decode cX7_fact 72 = .ok (.ldc2_w 232, 3) := dk_20 0 232 (dk_at dksX7_fact_3 4 rfl rfl)
theorem dX7_fact_75 : decode cX7_fact 75 = .ok (.invokevirtual 99, 3) := dk_182 0 99 (dk_at dksX7_fact_3 7 rfl rfl)
theorem dX7_fact_78 : decode cX7_fact 78 = .ok (.ifCond .eq 21, 3) := dk_153 0 21 (dk_at dksX7_fact_3 10 rfl rfl)
theorem dX7_fact_81 : decode cX7_fact 81 = .ok (.new 162, 3) := dk_187 0 162 (dk_at dksX7_fact_3 13 rfl rfl)
theorem dX7_fact_84 : decode cX7_fact 84 = .ok (.dup, 1) := dk_89 (dk_at dksX7_fact_3 16 rfl rfl)
theorem dX7_fact_85 : decode cX7_fact 85 = .ok (.lload_n 1, 1) := dk_31 (dk_at dksX7_fact_3 17 rfl rfl)
theorem dX7_fact_86 : decode cX7_fact 86 = .ok (.iconst 1, 1) := dk_4 (dk_at dksX7_fact_3 18 rfl rfl)
theorem dX7_fact_87 : decode cX7_fact 87 = .ok (.invokespecial 229, 3) := dk_183 0 229 (dk_at dksX7_fact_3 19 rfl rfl)
theorem dX7_fact_90 : decode cX7_fact 90 = .ok (.astore_n 3, 1) := dk_78 (dk_at dksX7_fact_3 22 rfl rfl)
theorem dX7_fact_91 : decode cX7_fact 91 = .ok (.aload_n 0, 1) := dk_42 (dk_at dksX7_fact_3 23 rfl rfl)
theorem dX7_fact_92 : decode cX7_fact 92 = .ok (.aload_n 3, 1) := dk_45 (dk_at dksX7_fact_4 0 rfl rfl)
theorem dX7_fact_93 : decode cX7_fact 93 = .ok (.invokevirtual 234, 3) := dk_182 0 234 (dk_at dksX7_fact_4 1 rfl rfl)
theorem dX7_fact_96 : decode cX7_fact 96 = .ok (.goto 97, 3) := dk_167 0 97 (dk_at dksX7_fact_4 4 rfl rfl)
theorem dX7_fact_99 : decode cX7_fact 99 = .ok (.aload_n 0, 1) := dk_42 (dk_at dksX7_fact_4 7 rfl rfl)
theorem dX7_fact_100 : decode cX7_fact 100 = .ok (.ldc2_w 238, 3) := dk_20 0 238 (dk_at dksX7_fact_4 8 rfl rfl)
theorem dX7_fact_103 : decode cX7_fact 103 = .ok (.invokevirtual 99, 3) := dk_182 0 99 (dk_at dksX7_fact_4 11 rfl rfl)
theorem dX7_fact_106 : decode cX7_fact 106 = .ok (.ifCond .eq 74, 3) := dk_153 0 74 (dk_at dksX7_fact_4 14 rfl rfl)
theorem dX7_fact_109 : decode cX7_fact 109 = .ok (.new 162, 3) := dk_187 0 162 (dk_at dksX7_fact_4 17 rfl rfl)
theorem dX7_fact_112 : decode cX7_fact 112 = .ok (.dup, 1) := dk_89 (dk_at dksX7_fact_4 20 rfl rfl)
theorem dX7_fact_113 : decode cX7_fact 113 = .ok (.lload_n 1, 1) := dk_31 (dk_at dksX7_fact_4 21 rfl rfl)
theorem dX7_fact_114 : decode cX7_fact 114 = .ok (.iconst 2, 1) := dk_5 (dk_at dksX7_fact_4 22 rfl rfl)
theorem dX7_fact_115 : decode cX7_fact 115 = .ok (.invokespecial 229, 3) := dk_183 0 229 (dk_at dksX7_fact_5 0 rfl rfl)
theorem dX7_fact_118 : decode cX7_fact 118 = .ok (.astore_n 3, 1) := dk_78 (dk_at dksX7_fact_5 3 rfl rfl)
theorem dX7_fact_119 : decode cX7_fact 119 = .ok (.aload_n 0, 1) := dk_42 (dk_at dksX7_fact_5 4 rfl rfl)
theorem dX7_fact_120 : decode cX7_fact 120 = .ok (.invokevirtual 23, 3) := dk_182 0 23 (dk_at dksX7_fact_5 5 rfl rfl)
theorem dX7_fact_123 : decode cX7_fact 123 = .ok (.aload_n 3, 1) := dk_45 (dk_at dksX7_fact_5 8 rfl rfl)
theorem dX7_fact_124 : decode cX7_fact 124 = .ok (.aload_n 0, 1) := dk_42 (dk_at dksX7_fact_5 9 rfl rfl)
theorem dX7_fact_125 : decode cX7_fact 125 = .ok (.iconst 0, 1) := dk_3 (dk_at dksX7_fact_5 10 rfl rfl)
theorem dX7_fact_126 : decode cX7_fact 126 = .ok (.ldc 185, 2) := dk_18 185 (dk_at dksX7_fact_5 11 rfl rfl)
theorem dX7_fact_128 : decode cX7_fact 128 = .ok (.invokevirtual 186, 3) := dk_182 0 186 (dk_at dksX7_fact_5 13 rfl rfl)
theorem dX7_fact_131 : decode cX7_fact 131 = .ok (.putfield 240, 3) := dk_181 0 240 (dk_at dksX7_fact_5 16 rfl rfl)
theorem dX7_fact_134 : decode cX7_fact 134 = .ok (.aload_n 0, 1) := dk_42 (dk_at dksX7_fact_5 19 rfl rfl)
theorem dX7_fact_135 : decode cX7_fact 135 = .ok (.ldc2_w 243, 3) := dk_20 0 243 (dk_at dksX7_fact_5 20 rfl rfl)
theorem dX7_fact_138 : decode cX7_fact 138 = .ok (.invokevirtual 99, 3) := dk_182 0 99 (dk_at dksX7_fact_6 0 rfl rfl)
theorem dX7_fact_141 : decode cX7_fact 141 = .ok (.ifCond .ne 16, 3) := dk_154 0 16 (dk_at dksX7_fact_6 3 rfl rfl)
theorem dX7_fact_144 : decode cX7_fact 144 = .ok (.new 60, 3) := dk_187 0 60 (dk_at dksX7_fact_6 6 rfl rfl)
theorem dX7_fact_147 : decode cX7_fact 147 = .ok (.dup, 1) := dk_89 (dk_at dksX7_fact_6 9 rfl rfl)
theorem dX7_fact_148 : decode cX7_fact 148 = .ok (.iconst 2, 1) := dk_5 (dk_at dksX7_fact_6 10 rfl rfl)
theorem dX7_fact_149 : decode cX7_fact 149 = .ok (.aload_n 0, 1) := dk_42 (dk_at dksX7_fact_6 11 rfl rfl)
theorem dX7_fact_150 : decode cX7_fact 150 = .ok (.getfield 43, 3) := dk_180 0 43 (dk_at dksX7_fact_6 12 rfl rfl)
theorem dX7_fact_153 : decode cX7_fact 153 = .ok (.invokespecial 62, 3) := dk_183 0 62 (dk_at dksX7_fact_6 15 rfl rfl)
theorem dX7_fact_156 : decode cX7_fact 156 = .ok (.athrow, 1) := dk_191 (dk_at dksX7_fact_6 18 rfl rfl)
theorem dX7_fact_157 : decode cX7_fact 157 = .ok (.aload_n 0, 1) := dk_42 (dk_at dksX7_fact_6 19 rfl rfl)
theorem dX7_fact_158 : decode cX7_fact 158 = .ok (.invokevirtual 23, 3) := dk_182 0 23 (dk_at dksX7_fact_6 20 rfl rfl)
theorem dX7_fact_161 : decode cX7_fact 161 = .ok (.aload_n 3, 1) := dk_45 (dk_at dksX7_fact_6 23 rfl rfl)
theorem dX7_fact_162 : decode cX7_fact 162 = .ok (.aload_n 0, 1) := dk_42 (dk_at dksX7_fact_7 0 rfl rfl)
theorem dX7_fact_163 : decode cX7_fact 163 = .ok (.aload_n 3, 1) := dk_45 (dk_at dksX7_fact_7 1 rfl rfl)
theorem dX7_fact_164 : decode cX7_fact 164 = .ok (.getfield 240, 3) := dk_180 0 240 (dk_at dksX7_fact_7 2 rfl rfl)
theorem dX7_fact_167 : decode cX7_fact 167 = .ok (.iconst 1, 1) := dk_4 (dk_at dksX7_fact_7 5 rfl rfl)
theorem dX7_fact_168 : decode cX7_fact 168 = .ok (.iadd, 1) := dk_96 (dk_at dksX7_fact_7 6 rfl rfl)
theorem dX7_fact_169 : decode cX7_fact 169 = .ok (.ldc 185, 2) := dk_18 185 (dk_at dksX7_fact_7 7 rfl rfl)
theorem dX7_fact_171 : decode cX7_fact 171 = .ok (.invokevirtual 186, 3) := dk_182 0 186 (dk_at dksX7_fact_7 9 rfl rfl)
theorem dX7_fact_174 : decode cX7_fact 174 = .ok (.putfield 245, 3) := dk_181 0 245 (dk_at dksX7_fact_7 12 rfl rfl)
theorem dX7_fact_177 : decode cX7_fact 177 = .ok (.goto 16, 3) := dk_167 0 16 (dk_at dksX7_fact_7 15 rfl rfl)
theorem dX7_fact_180 : decode cX7_fact 180 = .ok (.new 60, 3) := dk_187 0 60 (dk_at dksX7_fact_7 18 rfl rfl)
theorem dX7_fact_183 : decode cX7_fact 183 = .ok (.dup, 1) := dk_89 (dk_at dksX7_fact_7 21 rfl rfl)
theorem dX7_fact_184 : decode cX7_fact 184 = .ok (.iconst 2, 1) := dk_5 (dk_at dksX7_fact_7 22 rfl rfl)
theorem dX7_fact_185 : decode cX7_fact 185 = .ok (.aload_n 0, 1) := dk_42 (dk_at dksX7_fact_7 23 rfl rfl)
theorem dX7_fact_186 : decode cX7_fact 186 = .ok (.getfield 43, 3) := dk_180 0 43 (dk_at dksX7_fact_8 0 rfl rfl)
theorem dX7_fact_189 : decode cX7_fact 189 = .ok (.invokespecial 62, 3) := dk_183 0 62 (dk_at dksX7_fact_8 3 rfl rfl)
theorem dX7_fact_192 : decode cX7_fact 192 = .ok (.athrow, 1) := dk_191 (dk_at dksX7_fact_8 6 rfl rfl)
theorem dX7_fact_193 : decode cX7_fact 193 = .ok (.aload_n 0, 1) := dk_42 (dk_at dksX7_fact_8 7 rfl rfl)
theorem dX7_fact_194 : decode cX7_fact 194 = .ok (.bipush 59, 2) := dk_16 59 (dk_at dksX7_fact_8 8 rfl rfl)
theorem dX7_fact_196 : decode cX7_fact 196 = .ok (.invokevirtual 136, 3) := dk_182 0 136 (dk_at dksX7_fact_8 10 rfl rfl)
theorem dX7_fact_199 : decode cX7_fact 199 = .ok (.aload_n 0, 1) := dk_42 (dk_at dksX7_fact_8 13 rfl rfl)
theorem dX7_fact_200 : decode cX7_fact 200 = .ok (.getfield 15, 3) := dk_180 0 15 (dk_at dksX7_fact_8 14 rfl rfl)
theorem dX7_fact_203 : decode cX7_fact 203 = .ok (.getfield 155, 3) := dk_180 0 155 (dk_at dksX7_fact_8 17 rfl rfl)
theorem dX7_fact_206 : decode cX7_fact 206 = .ok (.aload_n 3, 1) := dk_45 (dk_at dksX7_fact_8 20 rfl rfl)
theorem dX7_fact_207 : decode cX7_fact 207 = .ok (.invokeinterface 111 2, 5) := by decide +kernel
theorem dX7_fact_212 : decode cX7_fact 212 = .ok (.pop, 1) := dk_87 (dk_at dksX7_fact_9 5 rfl rfl)
theorem dX7_fact_213 : decode cX7_fact 213 = .ok (.return_, 1) := dk_177 (dk_at dksX7_fact_9 6 rfl rfl)
abbrev cX7_newName : ByteArray := prog_18_method_22_code
def yX7_newName : MethodName := ⟨RX7, "newName", "()J"⟩
def dkwX7_newName_2 : List UInt8 := [180, 0, 53, 173]
abbrev dktX7_newName_2 : List UInt8 := dkwX7_newName_2 ++ []
def dkwX7_newName_1 : List UInt8 := [180, 0, 53, 182, 0, 148, 155, 0, 16, 187, 0, 60, 89, 6, 42, 180, 0, 43, 183, 0, 62, 191, 42]
abbrev dktX7_newName_1 : List UInt8 := dkwX7_newName_1 ++ dktX7_newName_2
def dkwX7_newName_0 : List UInt8 := [42, 4, 182, 0, 81, 42, 180, 0, 15, 42, 180, 0, 53, 182, 0, 142, 156, 0, 17, 42, 180, 0, 15, 42]
abbrev dktX7_newName_0 : List UInt8 := dkwX7_newName_0 ++ dktX7_newName_1
theorem dksX7_newName_0 : cX7_newName.data.toList.drop 0 = dktX7_newName_0 := by decide +kernel
theorem dksX7_newName_1 : cX7_newName.data.toList.drop 24 = dktX7_newName_1 := dk_seg dksX7_newName_0 24 rfl rfl
theorem dksX7_newName_2 : cX7_newName.data.toList.drop 47 = dktX7_newName_2 := dk_seg dksX7_newName_1 23 rfl rfl
theorem dX7_newName_0 : decode cX7_newName 0 = .ok (.aload_n 0, 1) := dk_42 (dk_at dksX7_newName_0 0 rfl rfl)
theorem dX7_newName_1 : decode cX7_newName 1 = .ok (.iconst 1, 1) := dk_4 (dk_at dksX7_newName_0 1 rfl rfl)
theorem dX7_newName_2 : decode cX7_newName 2 = .ok (.invokevirtual 81, 3) := dk_182 0 81 (dk_at dksX7_newName_0 2 rfl rfl)
theorem dX7_newName_5 : decode cX7_newName 5 = .ok (.aload_n 0, 1) := dk_42 (dk_at dksX7_newName_0 5 rfl rfl)
theorem dX7_newName_6 : decode cX7_newName 6 = .ok (.getfield 15, 3) := dk_180 0 15 (dk_at dksX7_newName_0 6 rfl rfl)
theorem dX7_newName_9 : decode cX7_newName 9 = .ok (.aload_n 0, 1) := dk_42 (dk_at dksX7_newName_0 9 rfl rfl)
theorem dX7_newName_10 : decode cX7_newName 10 = .ok (.getfield 53, 3) := dk_180 0 53 (dk_at dksX7_newName_0 10 rfl rfl)
theorem dX7_newName_13 : decode cX7_newName 13 = .ok (.invokevirtual 142, 3) := dk_182 0 142 (dk_at dksX7_newName_0 13 rfl rfl)
theorem dX7_newName_16 : decode cX7_newName 16 = .ok (.ifCond .ge 17, 3) := dk_156 0 17 (dk_at dksX7_newName_0 16 rfl rfl)
theorem dX7_newName_19 : decode cX7_newName 19 = .ok (.aload_n 0, 1) := dk_42 (dk_at dksX7_newName_0 19 rfl rfl)
theorem dX7_newName_20 : decode cX7_newName 20 = .ok (.getfield 15, 3) := dk_180 0 15 (dk_at dksX7_newName_0 20 rfl rfl)
theorem dX7_newName_23 : decode cX7_newName 23 = .ok (.aload_n 0, 1) := dk_42 (dk_at dksX7_newName_0 23 rfl rfl)
theorem dX7_newName_24 : decode cX7_newName 24 = .ok (.getfield 53, 3) := dk_180 0 53 (dk_at dksX7_newName_1 0 rfl rfl)
theorem dX7_newName_27 : decode cX7_newName 27 = .ok (.invokevirtual 148, 3) := dk_182 0 148 (dk_at dksX7_newName_1 3 rfl rfl)
theorem dX7_newName_30 : decode cX7_newName 30 = .ok (.ifCond .lt 16, 3) := dk_155 0 16 (dk_at dksX7_newName_1 6 rfl rfl)
theorem dX7_newName_33 : decode cX7_newName 33 = .ok (.new 60, 3) := dk_187 0 60 (dk_at dksX7_newName_1 9 rfl rfl)
theorem dX7_newName_36 : decode cX7_newName 36 = .ok (.dup, 1) := dk_89 (dk_at dksX7_newName_1 12 rfl rfl)
theorem dX7_newName_37 : decode cX7_newName 37 = .ok (.iconst 3, 1) := dk_6 (dk_at dksX7_newName_1 13 rfl rfl)
theorem dX7_newName_38 : decode cX7_newName 38 = .ok (.aload_n 0, 1) := dk_42 (dk_at dksX7_newName_1 14 rfl rfl)
theorem dX7_newName_39 : decode cX7_newName 39 = .ok (.getfield 43, 3) := dk_180 0 43 (dk_at dksX7_newName_1 15 rfl rfl)
theorem dX7_newName_42 : decode cX7_newName 42 = .ok (.invokespecial 62, 3) := dk_183 0 62 (dk_at dksX7_newName_1 18 rfl rfl)
theorem dX7_newName_45 : decode cX7_newName 45 = .ok (.athrow, 1) := dk_191 (dk_at dksX7_newName_1 21 rfl rfl)
theorem dX7_newName_46 : decode cX7_newName 46 = .ok (.aload_n 0, 1) := dk_42 (dk_at dksX7_newName_1 22 rfl rfl)
theorem dX7_newName_47 : decode cX7_newName 47 = .ok (.getfield 53, 3) := dk_180 0 53 (dk_at dksX7_newName_2 0 rfl rfl)
theorem dX7_newName_50 : decode cX7_newName 50 = .ok (.lreturn, 1) := dk_173 (dk_at dksX7_newName_2 3 rfl rfl)
abbrev cX7_wantKind : ByteArray := prog_18_method_11_code
def yX7_wantKind : MethodName := ⟨RX7, "wantKind", "(I)V"⟩
def dkwX7_wantKind_0 : List UInt8 := [42, 180, 0, 46, 27, 159, 0, 16, 187, 0, 60, 89, 5, 42, 180, 0, 43, 183, 0, 62, 191, 177]
abbrev dktX7_wantKind_0 : List UInt8 := dkwX7_wantKind_0 ++ []
theorem dksX7_wantKind_0 : cX7_wantKind.data.toList.drop 0 = dktX7_wantKind_0 := by decide +kernel
theorem dX7_wantKind_0 : decode cX7_wantKind 0 = .ok (.aload_n 0, 1) := dk_42 (dk_at dksX7_wantKind_0 0 rfl rfl)
theorem dX7_wantKind_1 : decode cX7_wantKind 1 = .ok (.getfield 46, 3) := dk_180 0 46 (dk_at dksX7_wantKind_0 1 rfl rfl)
theorem dX7_wantKind_4 : decode cX7_wantKind 4 = .ok (.iload_n 1, 1) := dk_27 (dk_at dksX7_wantKind_0 4 rfl rfl)
theorem dX7_wantKind_5 : decode cX7_wantKind 5 = .ok (.if_icmp .eq 16, 3) := dk_159 0 16 (dk_at dksX7_wantKind_0 5 rfl rfl)
theorem dX7_wantKind_8 : decode cX7_wantKind 8 = .ok (.new 60, 3) := dk_187 0 60 (dk_at dksX7_wantKind_0 8 rfl rfl)
theorem dX7_wantKind_11 : decode cX7_wantKind 11 = .ok (.dup, 1) := dk_89 (dk_at dksX7_wantKind_0 11 rfl rfl)
theorem dX7_wantKind_12 : decode cX7_wantKind 12 = .ok (.iconst 2, 1) := dk_5 (dk_at dksX7_wantKind_0 12 rfl rfl)
theorem dX7_wantKind_13 : decode cX7_wantKind 13 = .ok (.aload_n 0, 1) := dk_42 (dk_at dksX7_wantKind_0 13 rfl rfl)
theorem dX7_wantKind_14 : decode cX7_wantKind 14 = .ok (.getfield 43, 3) := dk_180 0 43 (dk_at dksX7_wantKind_0 14 rfl rfl)
theorem dX7_wantKind_17 : decode cX7_wantKind 17 = .ok (.invokespecial 62, 3) := dk_183 0 62 (dk_at dksX7_wantKind_0 17 rfl rfl)
theorem dX7_wantKind_20 : decode cX7_wantKind 20 = .ok (.athrow, 1) := dk_191 (dk_at dksX7_wantKind_0 20 rfl rfl)
theorem dX7_wantKind_21 : decode cX7_wantKind 21 = .ok (.return_, 1) := dk_177 (dk_at dksX7_wantKind_0 21 rfl rfl)
abbrev cX7_choices : ByteArray := prog_18_method_24_code
def yX7_choices : MethodName := ⟨RX7, "choices", "(LCoverHouse$Fact;)V"⟩
def dkwX7_choices_5 : List UInt8 := [177]
abbrev dktX7_choices_5 : List UInt8 := dkwX7_choices_5 ++ []
def dkwX7_choices_4 : List UInt8 := [154, 255, 160, 43, 180, 0, 248, 5, 162, 0, 16, 187, 0, 60, 89, 5, 42, 180, 0, 43, 183, 0, 62, 191]
abbrev dktX7_choices_4 : List UInt8 := dkwX7_choices_4 ++ dktX7_choices_5
def dkwX7_choices_3 : List UInt8 := [180, 0, 53, 80, 43, 43, 180, 0, 248, 4, 100, 181, 0, 245, 42, 182, 0, 23, 42, 16, 44, 182, 0, 78]
abbrev dktX7_choices_3 : List UInt8 := dkwX7_choices_3 ++ dktX7_choices_4
def dkwX7_choices_2 : List UInt8 := [42, 180, 0, 43, 183, 0, 62, 191, 43, 180, 0, 250, 43, 89, 180, 0, 248, 90, 4, 96, 181, 0, 248, 42]
abbrev dktX7_choices_2 : List UInt8 := dkwX7_choices_2 ++ dktX7_choices_3
def dkwX7_choices_1 : List UInt8 := [6, 42, 180, 0, 43, 183, 0, 62, 191, 43, 180, 0, 248, 16, 6, 160, 0, 17, 187, 0, 60, 89, 16, 6]
abbrev dktX7_choices_1 : List UInt8 := dkwX7_choices_1 ++ dktX7_choices_2
def dkwX7_choices_0 : List UInt8 := [42, 182, 0, 23, 42, 4, 182, 0, 81, 43, 42, 180, 0, 53, 182, 0, 193, 155, 0, 16, 187, 0, 60, 89]
abbrev dktX7_choices_0 : List UInt8 := dkwX7_choices_0 ++ dktX7_choices_1
theorem dksX7_choices_0 : cX7_choices.data.toList.drop 0 = dktX7_choices_0 := by decide +kernel
theorem dksX7_choices_1 : cX7_choices.data.toList.drop 24 = dktX7_choices_1 := dk_seg dksX7_choices_0 24 rfl rfl
theorem dksX7_choices_2 : cX7_choices.data.toList.drop 48 = dktX7_choices_2 := dk_seg dksX7_choices_1 24 rfl rfl
theorem dksX7_choices_3 : cX7_choices.data.toList.drop 72 = dktX7_choices_3 := dk_seg dksX7_choices_2 24 rfl rfl
theorem dksX7_choices_4 : cX7_choices.data.toList.drop 96 = dktX7_choices_4 := dk_seg dksX7_choices_3 24 rfl rfl
theorem dksX7_choices_5 : cX7_choices.data.toList.drop 120 = dktX7_choices_5 := dk_seg dksX7_choices_4 24 rfl rfl
theorem dX7_choices_0 : decode cX7_choices 0 = .ok (.aload_n 0, 1) := dk_42 (dk_at dksX7_choices_0 0 rfl rfl)
theorem dX7_choices_1 : decode cX7_choices 1 = .ok (.invokevirtual 23, 3) := dk_182 0 23 (dk_at dksX7_choices_0 1 rfl rfl)
theorem dX7_choices_4 : decode cX7_choices 4 = .ok (.aload_n 0, 1) := dk_42 (dk_at dksX7_choices_0 4 rfl rfl)
theorem dX7_choices_5 : decode cX7_choices 5 = .ok (.iconst 1, 1) := dk_4 (dk_at dksX7_choices_0 5 rfl rfl)
theorem dX7_choices_6 : decode cX7_choices 6 = .ok (.invokevirtual 81, 3) := dk_182 0 81 (dk_at dksX7_choices_0 6 rfl rfl)
theorem dX7_choices_9 : decode cX7_choices 9 = .ok (.aload_n 1, 1) := dk_43 (dk_at dksX7_choices_0 9 rfl rfl)
theorem dX7_choices_10 : decode cX7_choices 10 = .ok (.aload_n 0, 1) := dk_42 (dk_at dksX7_choices_0 10 rfl rfl)
theorem dX7_choices_11 : decode cX7_choices 11 = .ok (.getfield 53, 3) := dk_180 0 53 (dk_at dksX7_choices_0 11 rfl rfl)
theorem dX7_choices_14 : decode cX7_choices 14 = .ok (.invokevirtual 193, 3) := dk_182 0 193 (dk_at dksX7_choices_0 14 rfl rfl)
theorem dX7_choices_17 : decode cX7_choices 17 = .ok (.ifCond .lt 16, 3) := dk_155 0 16 (dk_at dksX7_choices_0 17 rfl rfl)
theorem dX7_choices_20 : decode cX7_choices 20 = .ok (.new 60, 3) := dk_187 0 60 (dk_at dksX7_choices_0 20 rfl rfl)
theorem dX7_choices_23 : decode cX7_choices 23 = .ok (.dup, 1) := dk_89 (dk_at dksX7_choices_0 23 rfl rfl)
theorem dX7_choices_24 : decode cX7_choices 24 = .ok (.iconst 3, 1) := dk_6 (dk_at dksX7_choices_1 0 rfl rfl)
theorem dX7_choices_25 : decode cX7_choices 25 = .ok (.aload_n 0, 1) := dk_42 (dk_at dksX7_choices_1 1 rfl rfl)
theorem dX7_choices_26 : decode cX7_choices 26 = .ok (.getfield 43, 3) := dk_180 0 43 (dk_at dksX7_choices_1 2 rfl rfl)
theorem dX7_choices_29 : decode cX7_choices 29 = .ok (.invokespecial 62, 3) := dk_183 0 62 (dk_at dksX7_choices_1 5 rfl rfl)
theorem dX7_choices_32 : decode cX7_choices 32 = .ok (.athrow, 1) := dk_191 (dk_at dksX7_choices_1 8 rfl rfl)
theorem dX7_choices_33 : decode cX7_choices 33 = .ok (.aload_n 1, 1) := dk_43 (dk_at dksX7_choices_1 9 rfl rfl)
theorem dX7_choices_34 : decode cX7_choices 34 = .ok (.getfield 248, 3) := dk_180 0 248 (dk_at dksX7_choices_1 10 rfl rfl)
theorem dX7_choices_37 : decode cX7_choices 37 = .ok (.bipush 6, 2) := dk_16 6 (dk_at dksX7_choices_1 13 rfl rfl)
theorem dX7_choices_39 : decode cX7_choices 39 = .ok (.if_icmp .ne 17, 3) := dk_160 0 17 (dk_at dksX7_choices_1 15 rfl rfl)
theorem dX7_choices_42 : decode cX7_choices 42 = .ok (.new 60, 3) := dk_187 0 60 (dk_at dksX7_choices_1 18 rfl rfl)
theorem dX7_choices_45 : decode cX7_choices 45 = .ok (.dup, 1) := dk_89 (dk_at dksX7_choices_1 21 rfl rfl)
theorem dX7_choices_46 : decode cX7_choices 46 = .ok (.bipush 6, 2) := dk_16 6 (dk_at dksX7_choices_1 22 rfl rfl)
theorem dX7_choices_48 : decode cX7_choices 48 = .ok (.aload_n 0, 1) := dk_42 (dk_at dksX7_choices_2 0 rfl rfl)
theorem dX7_choices_49 : decode cX7_choices 49 = .ok (.getfield 43, 3) := dk_180 0 43 (dk_at dksX7_choices_2 1 rfl rfl)
theorem dX7_choices_52 : decode cX7_choices 52 = .ok (.invokespecial 62, 3) := dk_183 0 62 (dk_at dksX7_choices_2 4 rfl rfl)
theorem dX7_choices_55 : decode cX7_choices 55 = .ok (.athrow, 1) := dk_191 (dk_at dksX7_choices_2 7 rfl rfl)
theorem dX7_choices_56 : decode cX7_choices 56 = .ok (.aload_n 1, 1) := dk_43 (dk_at dksX7_choices_2 8 rfl rfl)
theorem dX7_choices_57 : decode cX7_choices 57 = .ok (.getfield 250, 3) := dk_180 0 250 (dk_at dksX7_choices_2 9 rfl rfl)
theorem dX7_choices_60 : decode cX7_choices 60 = .ok (.aload_n 1, 1) := dk_43 (dk_at dksX7_choices_2 12 rfl rfl)
theorem dX7_choices_61 : decode cX7_choices 61 = .ok (.dup, 1) := dk_89 (dk_at dksX7_choices_2 13 rfl rfl)
theorem dX7_choices_62 : decode cX7_choices 62 = .ok (.getfield 248, 3) := dk_180 0 248 (dk_at dksX7_choices_2 14 rfl rfl)
theorem dX7_choices_65 : decode cX7_choices 65 = .ok (.dup_x1, 1) := dk_90 (dk_at dksX7_choices_2 17 rfl rfl)
theorem dX7_choices_66 : decode cX7_choices 66 = .ok (.iconst 1, 1) := dk_4 (dk_at dksX7_choices_2 18 rfl rfl)
theorem dX7_choices_67 : decode cX7_choices 67 = .ok (.iadd, 1) := dk_96 (dk_at dksX7_choices_2 19 rfl rfl)
theorem dX7_choices_68 : decode cX7_choices 68 = .ok (.putfield 248, 3) := dk_181 0 248 (dk_at dksX7_choices_2 20 rfl rfl)
theorem dX7_choices_71 : decode cX7_choices 71 = .ok (.aload_n 0, 1) := dk_42 (dk_at dksX7_choices_2 23 rfl rfl)
theorem dX7_choices_72 : decode cX7_choices 72 = .ok (.getfield 53, 3) := dk_180 0 53 (dk_at dksX7_choices_3 0 rfl rfl)
theorem dX7_choices_75 : decode cX7_choices 75 = .ok (.lastore, 1) := dk_80 (dk_at dksX7_choices_3 3 rfl rfl)
theorem dX7_choices_76 : decode cX7_choices 76 = .ok (.aload_n 1, 1) := dk_43 (dk_at dksX7_choices_3 4 rfl rfl)
theorem dX7_choices_77 : decode cX7_choices 77 = .ok (.aload_n 1, 1) := dk_43 (dk_at dksX7_choices_3 5 rfl rfl)
theorem dX7_choices_78 : decode cX7_choices 78 = .ok (.getfield 248, 3) := dk_180 0 248 (dk_at dksX7_choices_3 6 rfl rfl)
theorem dX7_choices_81 : decode cX7_choices 81 = .ok (.iconst 1, 1) := dk_4 (dk_at dksX7_choices_3 9 rfl rfl)
theorem dX7_choices_82 : decode cX7_choices 82 = .ok (.isub, 1) := dk_100 (dk_at dksX7_choices_3 10 rfl rfl)
theorem dX7_choices_83 : decode cX7_choices 83 = .ok (.putfield 245, 3) := dk_181 0 245 (dk_at dksX7_choices_3 11 rfl rfl)
theorem dX7_choices_86 : decode cX7_choices 86 = .ok (.aload_n 0, 1) := dk_42 (dk_at dksX7_choices_3 14 rfl rfl)
theorem dX7_choices_87 : decode cX7_choices 87 = .ok (.invokevirtual 23, 3) := dk_182 0 23 (dk_at dksX7_choices_3 15 rfl rfl)
theorem dX7_choices_90 : decode cX7_choices 90 = .ok (.aload_n 0, 1) := dk_42 (dk_at dksX7_choices_3 18 rfl rfl)
theorem dX7_choices_91 : decode cX7_choices 91 = .ok (.bipush 44, 2) := dk_16 44 (dk_at dksX7_choices_3 19 rfl rfl)
theorem dX7_choices_93 : decode cX7_choices 93 = .ok (.invokevirtual 78, 3) := dk_182 0 78 (dk_at dksX7_choices_3 21 rfl rfl)
theorem dX7_choices_96 : decode cX7_choices 96 = .ok (.ifCond .ne (-96), 3) := dk_154 255 160 (dk_at dksX7_choices_4 0 rfl rfl)
theorem dX7_choices_99 : decode cX7_choices 99 = .ok (.aload_n 1, 1) := dk_43 (dk_at dksX7_choices_4 3 rfl rfl)
theorem dX7_choices_100 : decode cX7_choices 100 = .ok (.getfield 248, 3) := dk_180 0 248 (dk_at dksX7_choices_4 4 rfl rfl)
theorem dX7_choices_103 : decode cX7_choices 103 = .ok (.iconst 2, 1) := dk_5 (dk_at dksX7_choices_4 7 rfl rfl)
theorem dX7_choices_104 : decode cX7_choices 104 = .ok (.if_icmp .ge 16, 3) := dk_162 0 16 (dk_at dksX7_choices_4 8 rfl rfl)
theorem dX7_choices_107 : decode cX7_choices 107 = .ok (.new 60, 3) := dk_187 0 60 (dk_at dksX7_choices_4 11 rfl rfl)
theorem dX7_choices_110 : decode cX7_choices 110 = .ok (.dup, 1) := dk_89 (dk_at dksX7_choices_4 14 rfl rfl)
theorem dX7_choices_111 : decode cX7_choices 111 = .ok (.iconst 2, 1) := dk_5 (dk_at dksX7_choices_4 15 rfl rfl)
theorem dX7_choices_112 : decode cX7_choices 112 = .ok (.aload_n 0, 1) := dk_42 (dk_at dksX7_choices_4 16 rfl rfl)
theorem dX7_choices_113 : decode cX7_choices 113 = .ok (.getfield 43, 3) := dk_180 0 43 (dk_at dksX7_choices_4 17 rfl rfl)
theorem dX7_choices_116 : decode cX7_choices 116 = .ok (.invokespecial 62, 3) := dk_183 0 62 (dk_at dksX7_choices_4 20 rfl rfl)
theorem dX7_choices_119 : decode cX7_choices 119 = .ok (.athrow, 1) := dk_191 (dk_at dksX7_choices_4 23 rfl rfl)
theorem dX7_choices_120 : decode cX7_choices 120 = .ok (.return_, 1) := dk_177 (dk_at dksX7_choices_5 0 rfl rfl)
abbrev cX7_isSign : ByteArray := prog_18_method_8_code
def yX7_isSign : MethodName := ⟨RX7, "isSign", "(I)Z"⟩
def dkwX7_isSign_0 : List UInt8 := [42, 180, 0, 46, 6, 160, 0, 15, 42, 180, 0, 76, 27, 160, 0, 7, 4, 167, 0, 4, 3, 172]
abbrev dktX7_isSign_0 : List UInt8 := dkwX7_isSign_0 ++ []
theorem dksX7_isSign_0 : cX7_isSign.data.toList.drop 0 = dktX7_isSign_0 := by decide +kernel
theorem dX7_isSign_0 : decode cX7_isSign 0 = .ok (.aload_n 0, 1) := dk_42 (dk_at dksX7_isSign_0 0 rfl rfl)
theorem dX7_isSign_1 : decode cX7_isSign 1 = .ok (.getfield 46, 3) := dk_180 0 46 (dk_at dksX7_isSign_0 1 rfl rfl)
theorem dX7_isSign_4 : decode cX7_isSign 4 = .ok (.iconst 3, 1) := dk_6 (dk_at dksX7_isSign_0 4 rfl rfl)
theorem dX7_isSign_5 : decode cX7_isSign 5 = .ok (.if_icmp .ne 15, 3) := dk_160 0 15 (dk_at dksX7_isSign_0 5 rfl rfl)
theorem dX7_isSign_8 : decode cX7_isSign 8 = .ok (.aload_n 0, 1) := dk_42 (dk_at dksX7_isSign_0 8 rfl rfl)
theorem dX7_isSign_9 : decode cX7_isSign 9 = .ok (.getfield 76, 3) := dk_180 0 76 (dk_at dksX7_isSign_0 9 rfl rfl)
theorem dX7_isSign_12 : decode cX7_isSign 12 = .ok (.iload_n 1, 1) := dk_27 (dk_at dksX7_isSign_0 12 rfl rfl)
theorem dX7_isSign_13 : decode cX7_isSign 13 = .ok (.if_icmp .ne 7, 3) := dk_160 0 7 (dk_at dksX7_isSign_0 13 rfl rfl)
theorem dX7_isSign_16 : decode cX7_isSign 16 = .ok (.iconst 1, 1) := dk_4 (dk_at dksX7_isSign_0 16 rfl rfl)
theorem dX7_isSign_17 : decode cX7_isSign 17 = .ok (.goto 4, 3) := dk_167 0 4 (dk_at dksX7_isSign_0 17 rfl rfl)
theorem dX7_isSign_20 : decode cX7_isSign 20 = .ok (.iconst 0, 1) := dk_3 (dk_at dksX7_isSign_0 20 rfl rfl)
theorem dX7_isSign_21 : decode cX7_isSign 21 = .ok (.ireturn, 1) := dk_172 (dk_at dksX7_isSign_0 21 rfl rfl)
abbrev cX7_number : ByteArray := prog_18_method_12_code
def yX7_number : MethodName := ⟨RX7, "number", "(II)I"⟩
def dkwX7_number_1 : List UInt8 := [89, 8, 42, 180, 0, 43, 183, 0, 62, 191, 42, 180, 0, 69, 62, 42, 182, 0, 23, 29, 172]
abbrev dktX7_number_1 : List UInt8 := dkwX7_number_1 ++ []
def dkwX7_number_0 : List UInt8 := [42, 5, 182, 0, 81, 42, 180, 0, 69, 27, 161, 0, 11, 42, 180, 0, 69, 28, 164, 0, 16, 187, 0, 60]
abbrev dktX7_number_0 : List UInt8 := dkwX7_number_0 ++ dktX7_number_1
theorem dksX7_number_0 : cX7_number.data.toList.drop 0 = dktX7_number_0 := by decide +kernel
theorem dksX7_number_1 : cX7_number.data.toList.drop 24 = dktX7_number_1 := dk_seg dksX7_number_0 24 rfl rfl
theorem dX7_number_0 : decode cX7_number 0 = .ok (.aload_n 0, 1) := dk_42 (dk_at dksX7_number_0 0 rfl rfl)
theorem dX7_number_1 : decode cX7_number 1 = .ok (.iconst 2, 1) := dk_5 (dk_at dksX7_number_0 1 rfl rfl)
theorem dX7_number_2 : decode cX7_number 2 = .ok (.invokevirtual 81, 3) := dk_182 0 81 (dk_at dksX7_number_0 2 rfl rfl)
theorem dX7_number_5 : decode cX7_number 5 = .ok (.aload_n 0, 1) := dk_42 (dk_at dksX7_number_0 5 rfl rfl)
theorem dX7_number_6 : decode cX7_number 6 = .ok (.getfield 69, 3) := dk_180 0 69 (dk_at dksX7_number_0 6 rfl rfl)
theorem dX7_number_9 : decode cX7_number 9 = .ok (.iload_n 1, 1) := dk_27 (dk_at dksX7_number_0 9 rfl rfl)
theorem dX7_number_10 : decode cX7_number 10 = .ok (.if_icmp .lt 11, 3) := dk_161 0 11 (dk_at dksX7_number_0 10 rfl rfl)
theorem dX7_number_13 : decode cX7_number 13 = .ok (.aload_n 0, 1) := dk_42 (dk_at dksX7_number_0 13 rfl rfl)
theorem dX7_number_14 : decode cX7_number 14 = .ok (.getfield 69, 3) := dk_180 0 69 (dk_at dksX7_number_0 14 rfl rfl)
theorem dX7_number_17 : decode cX7_number 17 = .ok (.iload_n 2, 1) := dk_28 (dk_at dksX7_number_0 17 rfl rfl)
theorem dX7_number_18 : decode cX7_number 18 = .ok (.if_icmp .le 16, 3) := dk_164 0 16 (dk_at dksX7_number_0 18 rfl rfl)
theorem dX7_number_21 : decode cX7_number 21 = .ok (.new 60, 3) := dk_187 0 60 (dk_at dksX7_number_0 21 rfl rfl)
theorem dX7_number_24 : decode cX7_number 24 = .ok (.dup, 1) := dk_89 (dk_at dksX7_number_1 0 rfl rfl)
theorem dX7_number_25 : decode cX7_number 25 = .ok (.iconst 5, 1) := dk_8 (dk_at dksX7_number_1 1 rfl rfl)
theorem dX7_number_26 : decode cX7_number 26 = .ok (.aload_n 0, 1) := dk_42 (dk_at dksX7_number_1 2 rfl rfl)
theorem dX7_number_27 : decode cX7_number 27 = .ok (.getfield 43, 3) := dk_180 0 43 (dk_at dksX7_number_1 3 rfl rfl)
theorem dX7_number_30 : decode cX7_number 30 = .ok (.invokespecial 62, 3) := dk_183 0 62 (dk_at dksX7_number_1 6 rfl rfl)
theorem dX7_number_33 : decode cX7_number 33 = .ok (.athrow, 1) := dk_191 (dk_at dksX7_number_1 9 rfl rfl)
theorem dX7_number_34 : decode cX7_number 34 = .ok (.aload_n 0, 1) := dk_42 (dk_at dksX7_number_1 10 rfl rfl)
theorem dX7_number_35 : decode cX7_number 35 = .ok (.getfield 69, 3) := dk_180 0 69 (dk_at dksX7_number_1 11 rfl rfl)
theorem dX7_number_38 : decode cX7_number 38 = .ok (.istore_n 3, 1) := dk_62 (dk_at dksX7_number_1 14 rfl rfl)
theorem dX7_number_39 : decode cX7_number 39 = .ok (.aload_n 0, 1) := dk_42 (dk_at dksX7_number_1 15 rfl rfl)
theorem dX7_number_40 : decode cX7_number 40 = .ok (.invokevirtual 23, 3) := dk_182 0 23 (dk_at dksX7_number_1 16 rfl rfl)
theorem dX7_number_43 : decode cX7_number 43 = .ok (.iload_n 3, 1) := dk_29 (dk_at dksX7_number_1 19 rfl rfl)
theorem dX7_number_44 : decode cX7_number 44 = .ok (.ireturn, 1) := dk_172 (dk_at dksX7_number_1 20 rfl rfl)
abbrev cX7_want : ByteArray := prog_18_method_10_code
def yX7_want : MethodName := ⟨RX7, "want", "(I)V"⟩
def dkwX7_want_1 : List UInt8 := [182, 0, 23, 177]
abbrev dktX7_want_1 : List UInt8 := dkwX7_want_1 ++ []
def dkwX7_want_0 : List UInt8 := [42, 27, 182, 0, 78, 154, 0, 16, 187, 0, 60, 89, 5, 42, 180, 0, 43, 183, 0, 62, 191, 42]
abbrev dktX7_want_0 : List UInt8 := dkwX7_want_0 ++ dktX7_want_1
theorem dksX7_want_0 : cX7_want.data.toList.drop 0 = dktX7_want_0 := by decide +kernel
theorem dksX7_want_1 : cX7_want.data.toList.drop 22 = dktX7_want_1 := dk_seg dksX7_want_0 22 rfl rfl
theorem dX7_want_0 : decode cX7_want 0 = .ok (.aload_n 0, 1) := dk_42 (dk_at dksX7_want_0 0 rfl rfl)
theorem dX7_want_1 : decode cX7_want 1 = .ok (.iload_n 1, 1) := dk_27 (dk_at dksX7_want_0 1 rfl rfl)
theorem dX7_want_2 : decode cX7_want 2 = .ok (.invokevirtual 78, 3) := dk_182 0 78 (dk_at dksX7_want_0 2 rfl rfl)
theorem dX7_want_5 : decode cX7_want 5 = .ok (.ifCond .ne 16, 3) := dk_154 0 16 (dk_at dksX7_want_0 5 rfl rfl)
theorem dX7_want_8 : decode cX7_want 8 = .ok (.new 60, 3) := dk_187 0 60 (dk_at dksX7_want_0 8 rfl rfl)
theorem dX7_want_11 : decode cX7_want 11 = .ok (.dup, 1) := dk_89 (dk_at dksX7_want_0 11 rfl rfl)
theorem dX7_want_12 : decode cX7_want 12 = .ok (.iconst 2, 1) := dk_5 (dk_at dksX7_want_0 12 rfl rfl)
theorem dX7_want_13 : decode cX7_want 13 = .ok (.aload_n 0, 1) := dk_42 (dk_at dksX7_want_0 13 rfl rfl)
theorem dX7_want_14 : decode cX7_want 14 = .ok (.getfield 43, 3) := dk_180 0 43 (dk_at dksX7_want_0 14 rfl rfl)
theorem dX7_want_17 : decode cX7_want 17 = .ok (.invokespecial 62, 3) := dk_183 0 62 (dk_at dksX7_want_0 17 rfl rfl)
theorem dX7_want_20 : decode cX7_want 20 = .ok (.athrow, 1) := dk_191 (dk_at dksX7_want_0 20 rfl rfl)
theorem dX7_want_21 : decode cX7_want 21 = .ok (.aload_n 0, 1) := dk_42 (dk_at dksX7_want_0 21 rfl rfl)
theorem dX7_want_22 : decode cX7_want 22 = .ok (.invokevirtual 23, 3) := dk_182 0 23 (dk_at dksX7_want_1 0 rfl rfl)
theorem dX7_want_25 : decode cX7_want 25 = .ok (.return_, 1) := dk_177 (dk_at dksX7_want_1 3 rfl rfl)
abbrev cX7_meaning : ByteArray := prog_18_method_25_code
def yX7_meaning : MethodName := ⟨RX7, "meaning", "()V"⟩
def dkwX7_meaning_5 : List UInt8 := [177]
abbrev dktX7_meaning_5 : List UInt8 := dkwX7_meaning_5 ++ []
def dkwX7_meaning_4 : List UInt8 := [184, 1, 6, 185, 0, 111, 2, 0, 87, 42, 180, 0, 15, 180, 0, 253, 25, 4, 185, 0, 111, 2, 0, 87]
abbrev dktX7_meaning_4 : List UInt8 := dkwX7_meaning_4 ++ dktX7_meaning_5
def dkwX7_meaning_3 : List UInt8 := [89, 180, 1, 0, 42, 180, 0, 84, 29, 100, 96, 181, 1, 0, 42, 180, 0, 15, 180, 1, 3, 31]
abbrev dktX7_meaning_3 : List UInt8 := dkwX7_meaning_3 ++ dktX7_meaning_4
def dkwX7_meaning_2 : List UInt8 := [182, 0, 136, 42, 180, 0, 84, 62, 42, 182, 0, 133, 58, 4, 42, 16, 59, 182, 0, 136, 42, 180, 0, 15]
abbrev dktX7_meaning_2 : List UInt8 := dkwX7_meaning_2 ++ dktX7_meaning_3
def dkwX7_meaning_1 : List UInt8 := [160, 0, 17, 187, 0, 60, 89, 16, 6, 42, 180, 0, 43, 183, 0, 62, 191, 42, 182, 0, 23, 42, 16, 61]
abbrev dktX7_meaning_1 : List UInt8 := dkwX7_meaning_1 ++ dktX7_meaning_2
def dkwX7_meaning_0 : List UInt8 := [42, 182, 0, 23, 42, 182, 0, 219, 64, 42, 180, 0, 15, 180, 0, 253, 185, 0, 223, 1, 0, 16, 12]
abbrev dktX7_meaning_0 : List UInt8 := dkwX7_meaning_0 ++ dktX7_meaning_1
theorem dksX7_meaning_0 : cX7_meaning.data.toList.drop 0 = dktX7_meaning_0 := by decide +kernel
theorem dksX7_meaning_1 : cX7_meaning.data.toList.drop 23 = dktX7_meaning_1 := dk_seg dksX7_meaning_0 23 rfl rfl
theorem dksX7_meaning_2 : cX7_meaning.data.toList.drop 47 = dktX7_meaning_2 := dk_seg dksX7_meaning_1 24 rfl rfl
theorem dksX7_meaning_3 : cX7_meaning.data.toList.drop 71 = dktX7_meaning_3 := dk_seg dksX7_meaning_2 24 rfl rfl
theorem dksX7_meaning_4 : cX7_meaning.data.toList.drop 93 = dktX7_meaning_4 := dk_seg dksX7_meaning_3 22 rfl rfl
theorem dksX7_meaning_5 : cX7_meaning.data.toList.drop 117 = dktX7_meaning_5 := dk_seg dksX7_meaning_4 24 rfl rfl
theorem dX7_meaning_0 : decode cX7_meaning 0 = .ok (.aload_n 0, 1) := dk_42 (dk_at dksX7_meaning_0 0 rfl rfl)
theorem dX7_meaning_1 : decode cX7_meaning 1 = .ok (.invokevirtual 23, 3) := dk_182 0 23 (dk_at dksX7_meaning_0 1 rfl rfl)
theorem dX7_meaning_4 : decode cX7_meaning 4 = .ok (.aload_n 0, 1) := dk_42 (dk_at dksX7_meaning_0 4 rfl rfl)
theorem dX7_meaning_5 : decode cX7_meaning 5 = .ok (.invokevirtual 219, 3) := dk_182 0 219 (dk_at dksX7_meaning_0 5 rfl rfl)
theorem dX7_meaning_8 : decode cX7_meaning 8 = .ok (.lstore_n 1, 1) := dk_64 (dk_at dksX7_meaning_0 8 rfl rfl)
theorem dX7_meaning_9 : decode cX7_meaning 9 = .ok (.aload_n 0, 1) := dk_42 (dk_at dksX7_meaning_0 9 rfl rfl)
theorem dX7_meaning_10 : decode cX7_meaning 10 = .ok (.getfield 15, 3) := dk_180 0 15 (dk_at dksX7_meaning_0 10 rfl rfl)
theorem dX7_meaning_13 : decode cX7_meaning 13 = .ok (.getfield 253, 3) := dk_180 0 253 (dk_at dksX7_meaning_0 13 rfl rfl)
theorem dX7_meaning_16 : decode cX7_meaning 16 = .ok (.invokeinterface 223 1, 5) := by decide +kernel
theorem dX7_meaning_21 : decode cX7_meaning 21 = .ok (.bipush 12, 2) := dk_16 12 (dk_at dksX7_meaning_0 21 rfl rfl)
theorem dX7_meaning_23 : decode cX7_meaning 23 = .ok (.if_icmp .ne 17, 3) := dk_160 0 17 (dk_at dksX7_meaning_1 0 rfl rfl)
theorem dX7_meaning_26 : decode cX7_meaning 26 = .ok (.new 60, 3) := dk_187 0 60 (dk_at dksX7_meaning_1 3 rfl rfl)
theorem dX7_meaning_29 : decode cX7_meaning 29 = .ok (.dup, 1) := dk_89 (dk_at dksX7_meaning_1 6 rfl rfl)
theorem dX7_meaning_30 : decode cX7_meaning 30 = .ok (.bipush 6, 2) := dk_16 6 (dk_at dksX7_meaning_1 7 rfl rfl)
theorem dX7_meaning_32 : decode cX7_meaning 32 = .ok (.aload_n 0, 1) := dk_42 (dk_at dksX7_meaning_1 9 rfl rfl)
theorem dX7_meaning_33 : decode cX7_meaning 33 = .ok (.getfield 43, 3) := dk_180 0 43 (dk_at dksX7_meaning_1 10 rfl rfl)
theorem dX7_meaning_36 : decode cX7_meaning 36 = .ok (.invokespecial 62, 3) := dk_183 0 62 (dk_at dksX7_meaning_1 13 rfl rfl)
theorem dX7_meaning_39 : decode cX7_meaning 39 = .ok (.athrow, 1) := dk_191 (dk_at dksX7_meaning_1 16 rfl rfl)
theorem dX7_meaning_40 : decode cX7_meaning 40 = .ok (.aload_n 0, 1) := dk_42 (dk_at dksX7_meaning_1 17 rfl rfl)
theorem dX7_meaning_41 : decode cX7_meaning 41 = .ok (.invokevirtual 23, 3) := dk_182 0 23 (dk_at dksX7_meaning_1 18 rfl rfl)
theorem dX7_meaning_44 : decode cX7_meaning 44 = .ok (.aload_n 0, 1) := dk_42 (dk_at dksX7_meaning_1 21 rfl rfl)
theorem dX7_meaning_45 : decode cX7_meaning 45 = .ok (.bipush 61, 2) := dk_16 61 (dk_at dksX7_meaning_1 22 rfl rfl)
theorem dX7_meaning_47 : decode cX7_meaning 47 = .ok (.invokevirtual 136, 3) := dk_182 0 136 (dk_at dksX7_meaning_2 0 rfl rfl)
theorem dX7_meaning_50 : decode cX7_meaning 50 = .ok (.aload_n 0, 1) := dk_42 (dk_at dksX7_meaning_2 3 rfl rfl)
theorem dX7_meaning_51 : decode cX7_meaning 51 = .ok (.getfield 84, 3) := dk_180 0 84 (dk_at dksX7_meaning_2 4 rfl rfl)
theorem dX7_meaning_54 : decode cX7_meaning 54 = .ok (.istore_n 3, 1) := dk_62 (dk_at dksX7_meaning_2 7 rfl rfl)
theorem dX7_meaning_55 : decode cX7_meaning 55 = .ok (.aload_n 0, 1) := dk_42 (dk_at dksX7_meaning_2 8 rfl rfl)
theorem dX7_meaning_56 : decode cX7_meaning 56 = .ok (.invokevirtual 133, 3) := dk_182 0 133 (dk_at dksX7_meaning_2 9 rfl rfl)
theorem dX7_meaning_59 : decode cX7_meaning 59 = .ok (.astore 4, 2) := dk_58 4 (dk_at dksX7_meaning_2 12 rfl rfl)
theorem dX7_meaning_61 : decode cX7_meaning 61 = .ok (.aload_n 0, 1) := dk_42 (dk_at dksX7_meaning_2 14 rfl rfl)
theorem dX7_meaning_62 : decode cX7_meaning 62 = .ok (.bipush 59, 2) := dk_16 59 (dk_at dksX7_meaning_2 15 rfl rfl)
theorem dX7_meaning_64 : decode cX7_meaning 64 = .ok (.invokevirtual 136, 3) := dk_182 0 136 (dk_at dksX7_meaning_2 17 rfl rfl)
theorem dX7_meaning_67 : decode cX7_meaning 67 = .ok (.aload_n 0, 1) := dk_42 (dk_at dksX7_meaning_2 20 rfl rfl)
theorem dX7_meaning_68 : decode cX7_meaning 68 = .ok (.getfield 15, 3) := dk_180 0 15 (dk_at dksX7_meaning_2 21 rfl rfl)
theorem dX7_meaning_71 : decode cX7_meaning 71 = .ok (.dup, 1) := dk_89 (dk_at dksX7_meaning_3 0 rfl rfl)
theorem dX7_meaning_72 : decode cX7_meaning 72 = .ok (.getfield 256, 3) := dk_180 1 0 (dk_at dksX7_meaning_3 1 rfl rfl)
theorem dX7_meaning_75 : decode cX7_meaning 75 = .ok (.aload_n 0, 1) := dk_42 (dk_at dksX7_meaning_3 4 rfl rfl)
theorem dX7_meaning_76 : decode cX7_meaning 76 = .ok (.getfield 84, 3) := dk_180 0 84 (dk_at dksX7_meaning_3 5 rfl rfl)
theorem dX7_meaning_79 : decode cX7_meaning 79 = .ok (.iload_n 3, 1) := dk_29 (dk_at dksX7_meaning_3 8 rfl rfl)
theorem dX7_meaning_80 : decode cX7_meaning 80 = .ok (.isub, 1) := dk_100 (dk_at dksX7_meaning_3 9 rfl rfl)
theorem dX7_meaning_81 : decode cX7_meaning 81 = .ok (.iadd, 1) := dk_96 (dk_at dksX7_meaning_3 10 rfl rfl)
theorem dX7_meaning_82 : decode cX7_meaning 82 = .ok (.putfield 256, 3) := dk_181 1 0 (dk_at dksX7_meaning_3 11 rfl rfl)
theorem dX7_meaning_85 : decode cX7_meaning 85 = .ok (.aload_n 0, 1) := dk_42 (dk_at dksX7_meaning_3 14 rfl rfl)
theorem dX7_meaning_86 : decode cX7_meaning 86 = .ok (.getfield 15, 3) := dk_180 0 15 (dk_at dksX7_meaning_3 15 rfl rfl)
theorem dX7_meaning_89 : decode cX7_meaning 89 = .ok (.getfield 259, 3) := dk_180 1 3 (dk_at dksX7_meaning_3 18 rfl rfl)
theorem dX7_meaning_92 : decode cX7_meaning 92 = .ok (.lload_n 1, 1) := dk_31 (dk_at dksX7_meaning_3 21 rfl rfl)
theorem dX7_meaning_93 : decode cX7_meaning 93 = .ok (.invokestatic 262, 3) := dk_184 1 6 (dk_at dksX7_meaning_4 0 rfl rfl)
theorem dX7_meaning_96 : decode cX7_meaning 96 = .ok (.invokeinterface 111 2, 5) := by decide +kernel
theorem dX7_meaning_101 : decode cX7_meaning 101 = .ok (.pop, 1) := dk_87 (dk_at dksX7_meaning_4 8 rfl rfl)
theorem dX7_meaning_102 : decode cX7_meaning 102 = .ok (.aload_n 0, 1) := dk_42 (dk_at dksX7_meaning_4 9 rfl rfl)
theorem dX7_meaning_103 : decode cX7_meaning 103 = .ok (.getfield 15, 3) := dk_180 0 15 (dk_at dksX7_meaning_4 10 rfl rfl)
theorem dX7_meaning_106 : decode cX7_meaning 106 = .ok (.getfield 253, 3) := dk_180 0 253 (dk_at dksX7_meaning_4 13 rfl rfl)
theorem dX7_meaning_109 : decode cX7_meaning 109 = .ok (.aload 4, 2) := dk_25 4 (dk_at dksX7_meaning_4 16 rfl rfl)
theorem dX7_meaning_111 : decode cX7_meaning 111 = .ok (.invokeinterface 111 2, 5) := by decide +kernel
theorem dX7_meaning_116 : decode cX7_meaning 116 = .ok (.pop, 1) := dk_87 (dk_at dksX7_meaning_4 23 rfl rfl)
theorem dX7_meaning_117 : decode cX7_meaning 117 = .ok (.return_, 1) := dk_177 (dk_at dksX7_meaning_5 0 rfl rfl)
abbrev cX7_cond : ByteArray := prog_18_method_14_code
def yX7_cond : MethodName := ⟨RX7, "cond", "()LCoverHouse$Cond;"⟩
def dkwX7_cond_0 : List UInt8 := [42, 4, 182, 0, 87, 176]
abbrev dktX7_cond_0 : List UInt8 := dkwX7_cond_0 ++ []
theorem dksX7_cond_0 : cX7_cond.data.toList.drop 0 = dktX7_cond_0 := by decide +kernel
theorem dX7_cond_0 : decode cX7_cond 0 = .ok (.aload_n 0, 1) := dk_42 (dk_at dksX7_cond_0 0 rfl rfl)
theorem dX7_cond_1 : decode cX7_cond 1 = .ok (.iconst 1, 1) := dk_4 (dk_at dksX7_cond_0 1 rfl rfl)
theorem dX7_cond_2 : decode cX7_cond 2 = .ok (.invokevirtual 87, 3) := dk_182 0 87 (dk_at dksX7_cond_0 2 rfl rfl)
theorem dX7_cond_5 : decode cX7_cond 5 = .ok (.areturn, 1) := dk_176 (dk_at dksX7_cond_0 5 rfl rfl)
abbrev cX7_many : ByteArray := prog_18_method_15_code
def yX7_many : MethodName := ⟨RX7, "many", "(Z)LCoverHouse$Cond;"⟩
def dkwX7_many_4 : List UInt8 := [182, 0, 87, 167, 0, 7, 42, 182, 0, 91, 185, 0, 111, 2, 0, 87, 167, 255, 213, 25, 5, 176]
abbrev dktX7_many_4 : List UInt8 := dkwX7_many_4 ++ []
def dkwX7_many_3 : List UInt8 := [153, 0, 41, 42, 182, 0, 117, 42, 182, 0, 23, 25, 5, 180, 0, 107, 27, 153, 0, 11, 42, 3]
abbrev dktX7_many_3 : List UInt8 := dkwX7_many_3 ++ dktX7_many_4
def dkwX7_many_2 : List UInt8 := [183, 0, 104, 58, 5, 25, 5, 180, 0, 107, 44, 185, 0, 111, 2, 0, 87, 42, 33, 182, 0, 99]
abbrev dktX7_many_2 : List UInt8 := dkwX7_many_2 ++ dktX7_many_3
def dkwX7_many_1 : List UInt8 := [167, 0, 6, 20, 0, 97, 66, 42, 33, 182, 0, 99, 154, 0, 5, 44, 176, 187, 0, 102, 89, 27]
abbrev dktX7_many_1 : List UInt8 := dkwX7_many_1 ++ dktX7_many_2
def dkwX7_many_0 : List UInt8 := [27, 153, 0, 11, 42, 3, 182, 0, 87, 167, 0, 7, 42, 182, 0, 91, 77, 27, 153, 0, 9, 20, 0, 95]
abbrev dktX7_many_0 : List UInt8 := dkwX7_many_0 ++ dktX7_many_1
theorem dksX7_many_0 : cX7_many.data.toList.drop 0 = dktX7_many_0 := by decide +kernel
theorem dksX7_many_1 : cX7_many.data.toList.drop 24 = dktX7_many_1 := dk_seg dksX7_many_0 24 rfl rfl
theorem dksX7_many_2 : cX7_many.data.toList.drop 46 = dktX7_many_2 := dk_seg dksX7_many_1 22 rfl rfl
theorem dksX7_many_3 : cX7_many.data.toList.drop 68 = dktX7_many_3 := dk_seg dksX7_many_2 22 rfl rfl
theorem dksX7_many_4 : cX7_many.data.toList.drop 90 = dktX7_many_4 := dk_seg dksX7_many_3 22 rfl rfl
theorem dX7_many_0 : decode cX7_many 0 = .ok (.iload_n 1, 1) := dk_27 (dk_at dksX7_many_0 0 rfl rfl)
theorem dX7_many_1 : decode cX7_many 1 = .ok (.ifCond .eq 11, 3) := dk_153 0 11 (dk_at dksX7_many_0 1 rfl rfl)
theorem dX7_many_4 : decode cX7_many 4 = .ok (.aload_n 0, 1) := dk_42 (dk_at dksX7_many_0 4 rfl rfl)
theorem dX7_many_5 : decode cX7_many 5 = .ok (.iconst 0, 1) := dk_3 (dk_at dksX7_many_0 5 rfl rfl)
theorem dX7_many_6 : decode cX7_many 6 = .ok (.invokevirtual 87, 3) := dk_182 0 87 (dk_at dksX7_many_0 6 rfl rfl)
theorem dX7_many_9 : decode cX7_many 9 = .ok (.goto 7, 3) := dk_167 0 7 (dk_at dksX7_many_0 9 rfl rfl)
theorem dX7_many_12 : decode cX7_many 12 = .ok (.aload_n 0, 1) := dk_42 (dk_at dksX7_many_0 12 rfl rfl)
theorem dX7_many_13 : decode cX7_many 13 = .ok (.invokevirtual 91, 3) := dk_182 0 91 (dk_at dksX7_many_0 13 rfl rfl)
theorem dX7_many_16 : decode cX7_many 16 = .ok (.astore_n 2, 1) := dk_77 (dk_at dksX7_many_0 16 rfl rfl)
theorem dX7_many_17 : decode cX7_many 17 = .ok (.iload_n 1, 1) := dk_27 (dk_at dksX7_many_0 17 rfl rfl)
theorem dX7_many_18 : decode cX7_many 18 = .ok (.ifCond .eq 9, 3) := dk_153 0 9 (dk_at dksX7_many_0 18 rfl rfl)
theorem dX7_many_21 : decode cX7_many 21 = .ok (.ldc2_w 95, 3) := dk_20 0 95 (dk_at dksX7_many_0 21 rfl rfl)
theorem dX7_many_24 : decode cX7_many 24 = .ok (.goto 6, 3) := dk_167 0 6 (dk_at dksX7_many_1 0 rfl rfl)
theorem dX7_many_27 : decode cX7_many 27 = .ok (.ldc2_w 97, 3) := dk_20 0 97 (dk_at dksX7_many_1 3 rfl rfl)
theorem dX7_many_30 : decode cX7_many 30 = .ok (.lstore_n 3, 1) := dk_66 (dk_at dksX7_many_1 6 rfl rfl)
theorem dX7_many_31 : decode cX7_many 31 = .ok (.aload_n 0, 1) := dk_42 (dk_at dksX7_many_1 7 rfl rfl)
theorem dX7_many_32 : decode cX7_many 32 = .ok (.lload_n 3, 1) := dk_33 (dk_at dksX7_many_1 8 rfl rfl)
theorem dX7_many_33 : decode cX7_many 33 = .ok (.invokevirtual 99, 3) := dk_182 0 99 (dk_at dksX7_many_1 9 rfl rfl)
theorem dX7_many_36 : decode cX7_many 36 = .ok (.ifCond .ne 5, 3) := dk_154 0 5 (dk_at dksX7_many_1 12 rfl rfl)
theorem dX7_many_39 : decode cX7_many 39 = .ok (.aload_n 2, 1) := dk_44 (dk_at dksX7_many_1 15 rfl rfl)
theorem dX7_many_40 : decode cX7_many 40 = .ok (.areturn, 1) := dk_176 (dk_at dksX7_many_1 16 rfl rfl)
theorem dX7_many_41 : decode cX7_many 41 = .ok (.new 102, 3) := dk_187 0 102 (dk_at dksX7_many_1 17 rfl rfl)
theorem dX7_many_44 : decode cX7_many 44 = .ok (.dup, 1) := dk_89 (dk_at dksX7_many_1 20 rfl rfl)
theorem dX7_many_45 : decode cX7_many 45 = .ok (.iload_n 1, 1) := dk_27 (dk_at dksX7_many_1 21 rfl rfl)
theorem dX7_many_46 : decode cX7_many 46 = .ok (.invokespecial 104, 3) := dk_183 0 104 (dk_at dksX7_many_2 0 rfl rfl)
theorem dX7_many_49 : decode cX7_many 49 = .ok (.astore 5, 2) := dk_58 5 (dk_at dksX7_many_2 3 rfl rfl)
theorem dX7_many_51 : decode cX7_many 51 = .ok (.aload 5, 2) := dk_25 5 (dk_at dksX7_many_2 5 rfl rfl)
theorem dX7_many_53 : decode cX7_many 53 = .ok (.getfield 107, 3) := dk_180 0 107 (dk_at dksX7_many_2 7 rfl rfl)
theorem dX7_many_56 : decode cX7_many 56 = .ok (.aload_n 2, 1) := dk_44 (dk_at dksX7_many_2 10 rfl rfl)
theorem dX7_many_57 : decode cX7_many 57 = .ok (.invokeinterface 111 2, 5) := by decide +kernel
theorem dX7_many_62 : decode cX7_many 62 = .ok (.pop, 1) := dk_87 (dk_at dksX7_many_2 16 rfl rfl)
theorem dX7_many_63 : decode cX7_many 63 = .ok (.aload_n 0, 1) := dk_42 (dk_at dksX7_many_2 17 rfl rfl)
theorem dX7_many_64 : decode cX7_many 64 = .ok (.lload_n 3, 1) := dk_33 (dk_at dksX7_many_2 18 rfl rfl)
theorem dX7_many_65 : decode cX7_many 65 = .ok (.invokevirtual 99, 3) := dk_182 0 99 (dk_at dksX7_many_2 19 rfl rfl)
theorem dX7_many_68 : decode cX7_many 68 = .ok (.ifCond .eq 41, 3) := dk_153 0 41 (dk_at dksX7_many_3 0 rfl rfl)
theorem dX7_many_71 : decode cX7_many 71 = .ok (.aload_n 0, 1) := dk_42 (dk_at dksX7_many_3 3 rfl rfl)
theorem dX7_many_72 : decode cX7_many 72 = .ok (.invokevirtual 117, 3) := dk_182 0 117 (dk_at dksX7_many_3 4 rfl rfl)
theorem dX7_many_75 : decode cX7_many 75 = .ok (.aload_n 0, 1) := dk_42 (dk_at dksX7_many_3 7 rfl rfl)
theorem dX7_many_76 : decode cX7_many 76 = .ok (.invokevirtual 23, 3) := dk_182 0 23 (dk_at dksX7_many_3 8 rfl rfl)
theorem dX7_many_79 : decode cX7_many 79 = .ok (.aload 5, 2) := dk_25 5 (dk_at dksX7_many_3 11 rfl rfl)
theorem dX7_many_81 : decode cX7_many 81 = .ok (.getfield 107, 3) := dk_180 0 107 (dk_at dksX7_many_3 13 rfl rfl)
theorem dX7_many_84 : decode cX7_many 84 = .ok (.iload_n 1, 1) := dk_27 (dk_at dksX7_many_3 16 rfl rfl)
theorem dX7_many_85 : decode cX7_many 85 = .ok (.ifCond .eq 11, 3) := dk_153 0 11 (dk_at dksX7_many_3 17 rfl rfl)
theorem dX7_many_88 : decode cX7_many 88 = .ok (.aload_n 0, 1) := dk_42 (dk_at dksX7_many_3 20 rfl rfl)
theorem dX7_many_89 : decode cX7_many 89 = .ok (.iconst 0, 1) := dk_3 (dk_at dksX7_many_3 21 rfl rfl)
theorem dX7_many_90 : decode cX7_many 90 = .ok (.invokevirtual 87, 3) := dk_182 0 87 (dk_at dksX7_many_4 0 rfl rfl)
theorem dX7_many_93 : decode cX7_many 93 = .ok (.goto 7, 3) := dk_167 0 7 (dk_at dksX7_many_4 3 rfl rfl)
theorem dX7_many_96 : decode cX7_many 96 = .ok (.aload_n 0, 1) := dk_42 (dk_at dksX7_many_4 6 rfl rfl)
theorem dX7_many_97 : decode cX7_many 97 = .ok (.invokevirtual 91, 3) := dk_182 0 91 (dk_at dksX7_many_4 7 rfl rfl)
theorem dX7_many_100 : decode cX7_many 100 = .ok (.invokeinterface 111 2, 5) := by decide +kernel
theorem dX7_many_105 : decode cX7_many 105 = .ok (.pop, 1) := dk_87 (dk_at dksX7_many_4 15 rfl rfl)
theorem dX7_many_106 : decode cX7_many 106 = .ok (.goto (-43), 3) := dk_167 255 213 (dk_at dksX7_many_4 16 rfl rfl)
theorem dX7_many_109 : decode cX7_many 109 = .ok (.aload 5, 2) := dk_25 5 (dk_at dksX7_many_4 19 rfl rfl)
theorem dX7_many_111 : decode cX7_many 111 = .ok (.areturn, 1) := dk_176 (dk_at dksX7_many_4 21 rfl rfl)
abbrev cX7_part : ByteArray := prog_18_method_16_code
def yX7_part : MethodName := ⟨RX7, "part", "()LCoverHouse$Cond;"⟩
def dkwX7_part_3 : List UInt8 := [100, 181, 0, 125, 43, 176, 42, 4, 182, 0, 81, 42, 182, 0, 139, 176]
abbrev dktX7_part_3 : List UInt8 := dkwX7_part_3 ++ []
def dkwX7_part_2 : List UInt8 := [153, 0, 30, 42, 182, 0, 122, 42, 182, 0, 133, 76, 42, 16, 41, 182, 0, 136, 42, 89, 180, 0, 125, 4]
abbrev dktX7_part_2 : List UInt8 := dkwX7_part_2 ++ dktX7_part_3
def dkwX7_part_1 : List UInt8 := [89, 180, 0, 125, 4, 100, 181, 0, 125, 187, 0, 128, 89, 43, 183, 0, 130, 176, 42, 16, 40, 182, 0, 78]
abbrev dktX7_part_1 : List UInt8 := dkwX7_part_1 ++ dktX7_part_2
def dkwX7_part_0 : List UInt8 := [42, 20, 0, 120, 182, 0, 99, 153, 0, 35, 42, 182, 0, 117, 42, 182, 0, 122, 42, 182, 0, 91, 76, 42]
abbrev dktX7_part_0 : List UInt8 := dkwX7_part_0 ++ dktX7_part_1
theorem dksX7_part_0 : cX7_part.data.toList.drop 0 = dktX7_part_0 := by decide +kernel
theorem dksX7_part_1 : cX7_part.data.toList.drop 24 = dktX7_part_1 := dk_seg dksX7_part_0 24 rfl rfl
theorem dksX7_part_2 : cX7_part.data.toList.drop 48 = dktX7_part_2 := dk_seg dksX7_part_1 24 rfl rfl
theorem dksX7_part_3 : cX7_part.data.toList.drop 72 = dktX7_part_3 := dk_seg dksX7_part_2 24 rfl rfl
theorem dX7_part_0 : decode cX7_part 0 = .ok (.aload_n 0, 1) := dk_42 (dk_at dksX7_part_0 0 rfl rfl)
theorem dX7_part_1 : decode cX7_part 1 = .ok (.ldc2_w 120, 3) := dk_20 0 120 (dk_at dksX7_part_0 1 rfl rfl)
theorem dX7_part_4 : decode cX7_part 4 = .ok (.invokevirtual 99, 3) := dk_182 0 99 (dk_at dksX7_part_0 4 rfl rfl)
theorem dX7_part_7 : decode cX7_part 7 = .ok (.ifCond .eq 35, 3) := dk_153 0 35 (dk_at dksX7_part_0 7 rfl rfl)
theorem dX7_part_10 : decode cX7_part 10 = .ok (.aload_n 0, 1) := dk_42 (dk_at dksX7_part_0 10 rfl rfl)
theorem dX7_part_11 : decode cX7_part 11 = .ok (.invokevirtual 117, 3) := dk_182 0 117 (dk_at dksX7_part_0 11 rfl rfl)
theorem dX7_part_14 : decode cX7_part 14 = .ok (.aload_n 0, 1) := dk_42 (dk_at dksX7_part_0 14 rfl rfl)
theorem dX7_part_15 : decode cX7_part 15 = .ok (.invokevirtual 122, 3) := dk_182 0 122 (dk_at dksX7_part_0 15 rfl rfl)
theorem dX7_part_18 : decode cX7_part 18 = .ok (.aload_n 0, 1) := dk_42 (dk_at dksX7_part_0 18 rfl rfl)
theorem dX7_part_19 : decode cX7_part 19 = .ok (.invokevirtual 91, 3) := dk_182 0 91 (dk_at dksX7_part_0 19 rfl rfl)
theorem dX7_part_22 : decode cX7_part 22 = .ok (.astore_n 1, 1) := dk_76 (dk_at dksX7_part_0 22 rfl rfl)
theorem dX7_part_23 : decode cX7_part 23 = .ok (.aload_n 0, 1) := dk_42 (dk_at dksX7_part_0 23 rfl rfl)
theorem dX7_part_24 : decode cX7_part 24 = .ok (.dup, 1) := dk_89 (dk_at dksX7_part_1 0 rfl rfl)
theorem dX7_part_25 : decode cX7_part 25 = .ok (.getfield 125, 3) := dk_180 0 125 (dk_at dksX7_part_1 1 rfl rfl)
theorem dX7_part_28 : decode cX7_part 28 = .ok (.iconst 1, 1) := dk_4 (dk_at dksX7_part_1 4 rfl rfl)
theorem dX7_part_29 : decode cX7_part 29 = .ok (.isub, 1) := dk_100 (dk_at dksX7_part_1 5 rfl rfl)
theorem dX7_part_30 : decode cX7_part 30 = .ok (.putfield 125, 3) := dk_181 0 125 (dk_at dksX7_part_1 6 rfl rfl)
theorem dX7_part_33 : decode cX7_part 33 = .ok (.new 128, 3) := dk_187 0 128 (dk_at dksX7_part_1 9 rfl rfl)
theorem dX7_part_36 : decode cX7_part 36 = .ok (.dup, 1) := dk_89 (dk_at dksX7_part_1 12 rfl rfl)
theorem dX7_part_37 : decode cX7_part 37 = .ok (.aload_n 1, 1) := dk_43 (dk_at dksX7_part_1 13 rfl rfl)
theorem dX7_part_38 : decode cX7_part 38 = .ok (.invokespecial 130, 3) := dk_183 0 130 (dk_at dksX7_part_1 14 rfl rfl)
theorem dX7_part_41 : decode cX7_part 41 = .ok (.areturn, 1) := dk_176 (dk_at dksX7_part_1 17 rfl rfl)
theorem dX7_part_42 : decode cX7_part 42 = .ok (.aload_n 0, 1) := dk_42 (dk_at dksX7_part_1 18 rfl rfl)
theorem dX7_part_43 : decode cX7_part 43 = .ok (.bipush 40, 2) := dk_16 40 (dk_at dksX7_part_1 19 rfl rfl)
theorem dX7_part_45 : decode cX7_part 45 = .ok (.invokevirtual 78, 3) := dk_182 0 78 (dk_at dksX7_part_1 21 rfl rfl)
theorem dX7_part_48 : decode cX7_part 48 = .ok (.ifCond .eq 30, 3) := dk_153 0 30 (dk_at dksX7_part_2 0 rfl rfl)
theorem dX7_part_51 : decode cX7_part 51 = .ok (.aload_n 0, 1) := dk_42 (dk_at dksX7_part_2 3 rfl rfl)
theorem dX7_part_52 : decode cX7_part 52 = .ok (.invokevirtual 122, 3) := dk_182 0 122 (dk_at dksX7_part_2 4 rfl rfl)
theorem dX7_part_55 : decode cX7_part 55 = .ok (.aload_n 0, 1) := dk_42 (dk_at dksX7_part_2 7 rfl rfl)
theorem dX7_part_56 : decode cX7_part 56 = .ok (.invokevirtual 133, 3) := dk_182 0 133 (dk_at dksX7_part_2 8 rfl rfl)
theorem dX7_part_59 : decode cX7_part 59 = .ok (.astore_n 1, 1) := dk_76 (dk_at dksX7_part_2 11 rfl rfl)
theorem dX7_part_60 : decode cX7_part 60 = .ok (.aload_n 0, 1) := dk_42 (dk_at dksX7_part_2 12 rfl rfl)
theorem dX7_part_61 : decode cX7_part 61 = .ok (.bipush 41, 2) := dk_16 41 (dk_at dksX7_part_2 13 rfl rfl)
theorem dX7_part_63 : decode cX7_part 63 = .ok (.invokevirtual 136, 3) := dk_182 0 136 (dk_at dksX7_part_2 15 rfl rfl)
theorem dX7_part_66 : decode cX7_part 66 = .ok (.aload_n 0, 1) := dk_42 (dk_at dksX7_part_2 18 rfl rfl)
theorem dX7_part_67 : decode cX7_part 67 = .ok (.dup, 1) := dk_89 (dk_at dksX7_part_2 19 rfl rfl)
theorem dX7_part_68 : decode cX7_part 68 = .ok (.getfield 125, 3) := dk_180 0 125 (dk_at dksX7_part_2 20 rfl rfl)
theorem dX7_part_71 : decode cX7_part 71 = .ok (.iconst 1, 1) := dk_4 (dk_at dksX7_part_2 23 rfl rfl)
theorem dX7_part_72 : decode cX7_part 72 = .ok (.isub, 1) := dk_100 (dk_at dksX7_part_3 0 rfl rfl)
theorem dX7_part_73 : decode cX7_part 73 = .ok (.putfield 125, 3) := dk_181 0 125 (dk_at dksX7_part_3 1 rfl rfl)
theorem dX7_part_76 : decode cX7_part 76 = .ok (.aload_n 1, 1) := dk_43 (dk_at dksX7_part_3 4 rfl rfl)
theorem dX7_part_77 : decode cX7_part 77 = .ok (.areturn, 1) := dk_176 (dk_at dksX7_part_3 5 rfl rfl)
theorem dX7_part_78 : decode cX7_part 78 = .ok (.aload_n 0, 1) := dk_42 (dk_at dksX7_part_3 6 rfl rfl)
theorem dX7_part_79 : decode cX7_part 79 = .ok (.iconst 1, 1) := dk_4 (dk_at dksX7_part_3 7 rfl rfl)
theorem dX7_part_80 : decode cX7_part 80 = .ok (.invokevirtual 81, 3) := dk_182 0 81 (dk_at dksX7_part_3 8 rfl rfl)
theorem dX7_part_83 : decode cX7_part 83 = .ok (.aload_n 0, 1) := dk_42 (dk_at dksX7_part_3 11 rfl rfl)
theorem dX7_part_84 : decode cX7_part 84 = .ok (.invokevirtual 139, 3) := dk_182 0 139 (dk_at dksX7_part_3 12 rfl rfl)
theorem dX7_part_87 : decode cX7_part 87 = .ok (.areturn, 1) := dk_176 (dk_at dksX7_part_3 15 rfl rfl)
abbrev cX7_node : ByteArray := prog_18_method_13_code
def yX7_node : MethodName := ⟨RX7, "node", "()V"⟩
def dkwX7_node_1 : List UInt8 := [42, 180, 0, 43, 183, 0, 62, 191, 177]
abbrev dktX7_node_1 : List UInt8 := dkwX7_node_1 ++ []
def dkwX7_node_0 : List UInt8 := [42, 89, 180, 0, 84, 4, 96, 90, 181, 0, 84, 42, 180, 0, 19, 164, 0, 17, 187, 0, 60, 89, 16, 6]
abbrev dktX7_node_0 : List UInt8 := dkwX7_node_0 ++ dktX7_node_1
theorem dksX7_node_0 : cX7_node.data.toList.drop 0 = dktX7_node_0 := by decide +kernel
theorem dksX7_node_1 : cX7_node.data.toList.drop 24 = dktX7_node_1 := dk_seg dksX7_node_0 24 rfl rfl
theorem dX7_node_0 : decode cX7_node 0 = .ok (.aload_n 0, 1) := dk_42 (dk_at dksX7_node_0 0 rfl rfl)
theorem dX7_node_1 : decode cX7_node 1 = .ok (.dup, 1) := dk_89 (dk_at dksX7_node_0 1 rfl rfl)
theorem dX7_node_2 : decode cX7_node 2 = .ok (.getfield 84, 3) := dk_180 0 84 (dk_at dksX7_node_0 2 rfl rfl)
theorem dX7_node_5 : decode cX7_node 5 = .ok (.iconst 1, 1) := dk_4 (dk_at dksX7_node_0 5 rfl rfl)
theorem dX7_node_6 : decode cX7_node 6 = .ok (.iadd, 1) := dk_96 (dk_at dksX7_node_0 6 rfl rfl)
theorem dX7_node_7 : decode cX7_node 7 = .ok (.dup_x1, 1) := dk_90 (dk_at dksX7_node_0 7 rfl rfl)
theorem dX7_node_8 : decode cX7_node 8 = .ok (.putfield 84, 3) := dk_181 0 84 (dk_at dksX7_node_0 8 rfl rfl)
theorem dX7_node_11 : decode cX7_node 11 = .ok (.aload_n 0, 1) := dk_42 (dk_at dksX7_node_0 11 rfl rfl)
theorem dX7_node_12 : decode cX7_node 12 = .ok (.getfield 19, 3) := dk_180 0 19 (dk_at dksX7_node_0 12 rfl rfl)
theorem dX7_node_15 : decode cX7_node 15 = .ok (.if_icmp .le 17, 3) := dk_164 0 17 (dk_at dksX7_node_0 15 rfl rfl)
theorem dX7_node_18 : decode cX7_node 18 = .ok (.new 60, 3) := dk_187 0 60 (dk_at dksX7_node_0 18 rfl rfl)
theorem dX7_node_21 : decode cX7_node 21 = .ok (.dup, 1) := dk_89 (dk_at dksX7_node_0 21 rfl rfl)
theorem dX7_node_22 : decode cX7_node 22 = .ok (.bipush 6, 2) := dk_16 6 (dk_at dksX7_node_0 22 rfl rfl)
theorem dX7_node_24 : decode cX7_node 24 = .ok (.aload_n 0, 1) := dk_42 (dk_at dksX7_node_1 0 rfl rfl)
theorem dX7_node_25 : decode cX7_node 25 = .ok (.getfield 43, 3) := dk_180 0 43 (dk_at dksX7_node_1 1 rfl rfl)
theorem dX7_node_28 : decode cX7_node 28 = .ok (.invokespecial 62, 3) := dk_183 0 62 (dk_at dksX7_node_1 4 rfl rfl)
theorem dX7_node_31 : decode cX7_node 31 = .ok (.athrow, 1) := dk_191 (dk_at dksX7_node_1 7 rfl rfl)
theorem dX7_node_32 : decode cX7_node 32 = .ok (.return_, 1) := dk_177 (dk_at dksX7_node_1 8 rfl rfl)
abbrev cX7_deeper : ByteArray := prog_18_method_17_code
def yX7_deeper : MethodName := ⟨RX7, "deeper", "()V"⟩
def dkwX7_deeper_1 : List UInt8 := [89, 180, 0, 125, 4, 96, 181, 0, 125, 42, 182, 0, 23, 177]
abbrev dktX7_deeper_1 : List UInt8 := dkwX7_deeper_1 ++ []
def dkwX7_deeper_0 : List UInt8 := [42, 180, 0, 125, 16, 15, 164, 0, 17, 187, 0, 60, 89, 16, 6, 42, 180, 0, 43, 183, 0, 62, 191, 42]
abbrev dktX7_deeper_0 : List UInt8 := dkwX7_deeper_0 ++ dktX7_deeper_1
theorem dksX7_deeper_0 : cX7_deeper.data.toList.drop 0 = dktX7_deeper_0 := by decide +kernel
theorem dksX7_deeper_1 : cX7_deeper.data.toList.drop 24 = dktX7_deeper_1 := dk_seg dksX7_deeper_0 24 rfl rfl
theorem dX7_deeper_0 : decode cX7_deeper 0 = .ok (.aload_n 0, 1) := dk_42 (dk_at dksX7_deeper_0 0 rfl rfl)
theorem dX7_deeper_1 : decode cX7_deeper 1 = .ok (.getfield 125, 3) := dk_180 0 125 (dk_at dksX7_deeper_0 1 rfl rfl)
theorem dX7_deeper_4 : decode cX7_deeper 4 = .ok (.bipush 15, 2) := dk_16 15 (dk_at dksX7_deeper_0 4 rfl rfl)
theorem dX7_deeper_6 : decode cX7_deeper 6 = .ok (.if_icmp .le 17, 3) := dk_164 0 17 (dk_at dksX7_deeper_0 6 rfl rfl)
theorem dX7_deeper_9 : decode cX7_deeper 9 = .ok (.new 60, 3) := dk_187 0 60 (dk_at dksX7_deeper_0 9 rfl rfl)
theorem dX7_deeper_12 : decode cX7_deeper 12 = .ok (.dup, 1) := dk_89 (dk_at dksX7_deeper_0 12 rfl rfl)
theorem dX7_deeper_13 : decode cX7_deeper 13 = .ok (.bipush 6, 2) := dk_16 6 (dk_at dksX7_deeper_0 13 rfl rfl)
theorem dX7_deeper_15 : decode cX7_deeper 15 = .ok (.aload_n 0, 1) := dk_42 (dk_at dksX7_deeper_0 15 rfl rfl)
theorem dX7_deeper_16 : decode cX7_deeper 16 = .ok (.getfield 43, 3) := dk_180 0 43 (dk_at dksX7_deeper_0 16 rfl rfl)
theorem dX7_deeper_19 : decode cX7_deeper 19 = .ok (.invokespecial 62, 3) := dk_183 0 62 (dk_at dksX7_deeper_0 19 rfl rfl)
theorem dX7_deeper_22 : decode cX7_deeper 22 = .ok (.athrow, 1) := dk_191 (dk_at dksX7_deeper_0 22 rfl rfl)
theorem dX7_deeper_23 : decode cX7_deeper 23 = .ok (.aload_n 0, 1) := dk_42 (dk_at dksX7_deeper_0 23 rfl rfl)
theorem dX7_deeper_24 : decode cX7_deeper 24 = .ok (.dup, 1) := dk_89 (dk_at dksX7_deeper_1 0 rfl rfl)
theorem dX7_deeper_25 : decode cX7_deeper 25 = .ok (.getfield 125, 3) := dk_180 0 125 (dk_at dksX7_deeper_1 1 rfl rfl)
theorem dX7_deeper_28 : decode cX7_deeper 28 = .ok (.iconst 1, 1) := dk_4 (dk_at dksX7_deeper_1 4 rfl rfl)
theorem dX7_deeper_29 : decode cX7_deeper 29 = .ok (.iadd, 1) := dk_96 (dk_at dksX7_deeper_1 5 rfl rfl)
theorem dX7_deeper_30 : decode cX7_deeper 30 = .ok (.putfield 125, 3) := dk_181 0 125 (dk_at dksX7_deeper_1 6 rfl rfl)
theorem dX7_deeper_33 : decode cX7_deeper 33 = .ok (.aload_n 0, 1) := dk_42 (dk_at dksX7_deeper_1 9 rfl rfl)
theorem dX7_deeper_34 : decode cX7_deeper 34 = .ok (.invokevirtual 23, 3) := dk_182 0 23 (dk_at dksX7_deeper_1 10 rfl rfl)
theorem dX7_deeper_37 : decode cX7_deeper 37 = .ok (.return_, 1) := dk_177 (dk_at dksX7_deeper_1 13 rfl rfl)
abbrev cX7_named : ByteArray := prog_18_method_18_code
def yX7_named : MethodName := ⟨RX7, "named", "()LCoverHouse$Cond;"⟩
def dkwX7_named_10 : List UInt8 := [183, 0, 167, 176]
abbrev dktX7_named_10 : List UInt8 := dkwX7_named_10 ++ []
def dkwX7_named_9 : List UInt8 := [182, 0, 23, 187, 0, 165, 89, 27, 21, 5, 25, 4, 178, 0, 180, 166, 0, 7, 4, 167, 0, 4, 3]
abbrev dktX7_named_9 : List UInt8 := dkwX7_named_9 ++ dktX7_named_10
def dkwX7_named_8 : List UInt8 := [182, 0, 193, 54, 5, 21, 5, 156, 0, 16, 187, 0, 60, 89, 7, 42, 180, 0, 43, 183, 0, 62, 191, 42]
abbrev dktX7_named_8 : List UInt8 := dkwX7_named_8 ++ dktX7_named_9
def dkwX7_named_7 : List UInt8 := [27, 25, 4, 42, 3, 18, 185, 182, 0, 186, 183, 0, 190, 176, 42, 4, 182, 0, 81, 45, 42, 180, 0, 53]
abbrev dktX7_named_7 : List UInt8 := dkwX7_named_7 ++ dktX7_named_8
def dkwX7_named_6 : List UInt8 := [42, 180, 0, 43, 183, 0, 62, 191, 42, 182, 0, 23, 45, 180, 0, 164, 5, 160, 0, 21, 187, 0, 183, 89]
abbrev dktX7_named_6 : List UInt8 := dkwX7_named_6 ++ dktX7_named_7
def dkwX7_named_5 : List UInt8 := [160, 0, 32, 25, 4, 178, 0, 174, 165, 0, 24, 25, 4, 178, 0, 180, 165, 0, 16, 187, 0, 60, 89, 5]
abbrev dktX7_named_5 : List UInt8 := dkwX7_named_5 ++ dktX7_named_6
def dkwX7_named_4 : List UInt8 := [27, 4, 3, 183, 0, 167, 176, 42, 182, 0, 170, 58, 4, 25, 4, 198, 0, 27, 45, 180, 0, 164, 4]
abbrev dktX7_named_4 : List UInt8 := dkwX7_named_4 ++ dktX7_named_5
def dkwX7_named_3 : List UInt8 := [180, 0, 155, 27, 185, 0, 158, 2, 0, 192, 0, 162, 78, 45, 180, 0, 164, 154, 0, 14, 187, 0, 165, 89]
abbrev dktX7_named_3 : List UInt8 := dkwX7_named_3 ++ dktX7_named_4
def dkwX7_named_2 : List UInt8 := [182, 0, 117, 42, 182, 0, 23, 27, 156, 0, 12, 187, 0, 151, 89, 28, 183, 0, 153, 176, 42, 180, 0, 15]
abbrev dktX7_named_2 : List UInt8 := dkwX7_named_2 ++ dktX7_named_3
def dkwX7_named_1 : List UInt8 := [27, 156, 0, 20, 28, 156, 0, 16, 187, 0, 60, 89, 7, 42, 180, 0, 43, 183, 0, 62, 191, 42]
abbrev dktX7_named_1 : List UInt8 := dkwX7_named_1 ++ dktX7_named_2
def dkwX7_named_0 : List UInt8 := [42, 180, 0, 15, 42, 180, 0, 53, 182, 0, 142, 60, 42, 180, 0, 15, 42, 180, 0, 53, 182, 0, 148, 61]
abbrev dktX7_named_0 : List UInt8 := dkwX7_named_0 ++ dktX7_named_1
theorem dksX7_named_0 : cX7_named.data.toList.drop 0 = dktX7_named_0 := by decide +kernel
theorem dksX7_named_1 : cX7_named.data.toList.drop 24 = dktX7_named_1 := dk_seg dksX7_named_0 24 rfl rfl
theorem dksX7_named_2 : cX7_named.data.toList.drop 46 = dktX7_named_2 := dk_seg dksX7_named_1 22 rfl rfl
theorem dksX7_named_3 : cX7_named.data.toList.drop 70 = dktX7_named_3 := dk_seg dksX7_named_2 24 rfl rfl
theorem dksX7_named_4 : cX7_named.data.toList.drop 94 = dktX7_named_4 := dk_seg dksX7_named_3 24 rfl rfl
theorem dksX7_named_5 : cX7_named.data.toList.drop 117 = dktX7_named_5 := dk_seg dksX7_named_4 23 rfl rfl
theorem dksX7_named_6 : cX7_named.data.toList.drop 141 = dktX7_named_6 := dk_seg dksX7_named_5 24 rfl rfl
theorem dksX7_named_7 : cX7_named.data.toList.drop 165 = dktX7_named_7 := dk_seg dksX7_named_6 24 rfl rfl
theorem dksX7_named_8 : cX7_named.data.toList.drop 189 = dktX7_named_8 := dk_seg dksX7_named_7 24 rfl rfl
theorem dksX7_named_9 : cX7_named.data.toList.drop 213 = dktX7_named_9 := dk_seg dksX7_named_8 24 rfl rfl
theorem dksX7_named_10 : cX7_named.data.toList.drop 236 = dktX7_named_10 := dk_seg dksX7_named_9 23 rfl rfl
theorem dX7_named_0 : decode cX7_named 0 = .ok (.aload_n 0, 1) := dk_42 (dk_at dksX7_named_0 0 rfl rfl)
theorem dX7_named_1 : decode cX7_named 1 = .ok (.getfield 15, 3) := dk_180 0 15 (dk_at dksX7_named_0 1 rfl rfl)
theorem dX7_named_4 : decode cX7_named 4 = .ok (.aload_n 0, 1) := dk_42 (dk_at dksX7_named_0 4 rfl rfl)
theorem dX7_named_5 : decode cX7_named 5 = .ok (.getfield 53, 3) := dk_180 0 53 (dk_at dksX7_named_0 5 rfl rfl)
theorem dX7_named_8 : decode cX7_named 8 = .ok (.invokevirtual 142, 3) := dk_182 0 142 (dk_at dksX7_named_0 8 rfl rfl)
theorem dX7_named_11 : decode cX7_named 11 = .ok (.istore_n 1, 1) := dk_60 (dk_at dksX7_named_0 11 rfl rfl)
theorem dX7_named_12 : decode cX7_named 12 = .ok (.aload_n 0, 1) := dk_42 (dk_at dksX7_named_0 12 rfl rfl)
theorem dX7_named_13 : decode cX7_named 13 = .ok (.getfield 15, 3) := dk_180 0 15 (dk_at dksX7_named_0 13 rfl rfl)
theorem dX7_named_16 : decode cX7_named 16 = .ok (.aload_n 0, 1) := dk_42 (dk_at dksX7_named_0 16 rfl rfl)
theorem dX7_named_17 : decode cX7_named 17 = .ok (.getfield 53, 3) := dk_180 0 53 (dk_at dksX7_named_0 17 rfl rfl)
theorem dX7_named_20 : decode cX7_named 20 = .ok (.invokevirtual 148, 3) := dk_182 0 148 (dk_at dksX7_named_0 20 rfl rfl)
theorem dX7_named_23 : decode cX7_named 23 = .ok (.istore_n 2, 1) := dk_61 (dk_at dksX7_named_0 23 rfl rfl)
theorem dX7_named_24 : decode cX7_named 24 = .ok (.iload_n 1, 1) := dk_27 (dk_at dksX7_named_1 0 rfl rfl)
theorem dX7_named_25 : decode cX7_named 25 = .ok (.ifCond .ge 20, 3) := dk_156 0 20 (dk_at dksX7_named_1 1 rfl rfl)
theorem dX7_named_28 : decode cX7_named 28 = .ok (.iload_n 2, 1) := dk_28 (dk_at dksX7_named_1 4 rfl rfl)
theorem dX7_named_29 : decode cX7_named 29 = .ok (.ifCond .ge 16, 3) := dk_156 0 16 (dk_at dksX7_named_1 5 rfl rfl)
theorem dX7_named_32 : decode cX7_named 32 = .ok (.new 60, 3) := dk_187 0 60 (dk_at dksX7_named_1 8 rfl rfl)
theorem dX7_named_35 : decode cX7_named 35 = .ok (.dup, 1) := dk_89 (dk_at dksX7_named_1 11 rfl rfl)
theorem dX7_named_36 : decode cX7_named 36 = .ok (.iconst 4, 1) := dk_7 (dk_at dksX7_named_1 12 rfl rfl)
theorem dX7_named_37 : decode cX7_named 37 = .ok (.aload_n 0, 1) := dk_42 (dk_at dksX7_named_1 13 rfl rfl)
theorem dX7_named_38 : decode cX7_named 38 = .ok (.getfield 43, 3) := dk_180 0 43 (dk_at dksX7_named_1 14 rfl rfl)
theorem dX7_named_41 : decode cX7_named 41 = .ok (.invokespecial 62, 3) := dk_183 0 62 (dk_at dksX7_named_1 17 rfl rfl)
theorem dX7_named_44 : decode cX7_named 44 = .ok (.athrow, 1) := dk_191 (dk_at dksX7_named_1 20 rfl rfl)
theorem dX7_named_45 : decode cX7_named 45 = .ok (.aload_n 0, 1) := dk_42 (dk_at dksX7_named_1 21 rfl rfl)
theorem dX7_named_46 : decode cX7_named 46 = .ok (.invokevirtual 117, 3) := dk_182 0 117 (dk_at dksX7_named_2 0 rfl rfl)
theorem dX7_named_49 : decode cX7_named 49 = .ok (.aload_n 0, 1) := dk_42 (dk_at dksX7_named_2 3 rfl rfl)
theorem dX7_named_50 : decode cX7_named 50 = .ok (.invokevirtual 23, 3) := dk_182 0 23 (dk_at dksX7_named_2 4 rfl rfl)
theorem dX7_named_53 : decode cX7_named 53 = .ok (.iload_n 1, 1) := dk_27 (dk_at dksX7_named_2 7 rfl rfl)
theorem dX7_named_54 : decode cX7_named 54 = .ok (.ifCond .ge 12, 3) := dk_156 0 12 (dk_at dksX7_named_2 8 rfl rfl)
theorem dX7_named_57 : decode cX7_named 57 = .ok (.new 151, 3) := dk_187 0 151 (dk_at dksX7_named_2 11 rfl rfl)
theorem dX7_named_60 : decode cX7_named 60 = .ok (.dup, 1) := dk_89 (dk_at dksX7_named_2 14 rfl rfl)
theorem dX7_named_61 : decode cX7_named 61 = .ok (.iload_n 2, 1) := dk_28 (dk_at dksX7_named_2 15 rfl rfl)
theorem dX7_named_62 : decode cX7_named 62 = .ok (.invokespecial 153, 3) := dk_183 0 153 (dk_at dksX7_named_2 16 rfl rfl)
theorem dX7_named_65 : decode cX7_named 65 = .ok (.areturn, 1) := dk_176 (dk_at dksX7_named_2 19 rfl rfl)
theorem dX7_named_66 : decode cX7_named 66 = .ok (.aload_n 0, 1) := dk_42 (dk_at dksX7_named_2 20 rfl rfl)
theorem dX7_named_67 : decode cX7_named 67 = .ok (.getfield 15, 3) := dk_180 0 15 (dk_at dksX7_named_2 21 rfl rfl)
theorem dX7_named_70 : decode cX7_named 70 = .ok (.getfield 155, 3) := dk_180 0 155 (dk_at dksX7_named_3 0 rfl rfl)
theorem dX7_named_73 : decode cX7_named 73 = .ok (.iload_n 1, 1) := dk_27 (dk_at dksX7_named_3 3 rfl rfl)
theorem dX7_named_74 : decode cX7_named 74 = .ok (.invokeinterface 158 2, 5) := by decide +kernel
theorem dX7_named_79 : decode cX7_named 79 = .ok (.checkcast 162, 3) := dk_192 0 162 (dk_at dksX7_named_3 9 rfl rfl)
theorem dX7_named_82 : decode cX7_named 82 = .ok (.astore_n 3, 1) := dk_78 (dk_at dksX7_named_3 12 rfl rfl)
theorem dX7_named_83 : decode cX7_named 83 = .ok (.aload_n 3, 1) := dk_45 (dk_at dksX7_named_3 13 rfl rfl)
theorem dX7_named_84 : decode cX7_named 84 = .ok (.getfield 164, 3) := dk_180 0 164 (dk_at dksX7_named_3 14 rfl rfl)
theorem dX7_named_87 : decode cX7_named 87 = .ok (.ifCond .ne 14, 3) := dk_154 0 14 (dk_at dksX7_named_3 17 rfl rfl)
theorem dX7_named_90 : decode cX7_named 90 = .ok (.new 165, 3) := dk_187 0 165 (dk_at dksX7_named_3 20 rfl rfl)
theorem dX7_named_93 : decode cX7_named 93 = .ok (.dup, 1) := dk_89 (dk_at dksX7_named_3 23 rfl rfl)
theorem dX7_named_94 : decode cX7_named 94 = .ok (.iload_n 1, 1) := dk_27 (dk_at dksX7_named_4 0 rfl rfl)
theorem dX7_named_95 : decode cX7_named 95 = .ok (.iconst 1, 1) := dk_4 (dk_at dksX7_named_4 1 rfl rfl)
theorem dX7_named_96 : decode cX7_named 96 = .ok (.iconst 0, 1) := dk_3 (dk_at dksX7_named_4 2 rfl rfl)
theorem dX7_named_97 : decode cX7_named 97 = .ok (.invokespecial 167, 3) := dk_183 0 167 (dk_at dksX7_named_4 3 rfl rfl)
theorem dX7_named_100 : decode cX7_named 100 = .ok (.areturn, 1) := dk_176 (dk_at dksX7_named_4 6 rfl rfl)
theorem dX7_named_101 : decode cX7_named 101 = .ok (.aload_n 0, 1) := dk_42 (dk_at dksX7_named_4 7 rfl rfl)
theorem dX7_named_102 : decode cX7_named 102 = .ok (.invokevirtual 170, 3) := dk_182 0 170 (dk_at dksX7_named_4 8 rfl rfl)
theorem dX7_named_105 : decode cX7_named 105 = .ok (.astore 4, 2) := dk_58 4 (dk_at dksX7_named_4 11 rfl rfl)
theorem dX7_named_107 : decode cX7_named 107 = .ok (.aload 4, 2) := dk_25 4 (dk_at dksX7_named_4 13 rfl rfl)
theorem dX7_named_109 : decode cX7_named 109 = .ok (.ifnull 27, 3) := dk_198 0 27 (dk_at dksX7_named_4 15 rfl rfl)
theorem dX7_named_112 : decode cX7_named 112 = .ok (.aload_n 3, 1) := dk_45 (dk_at dksX7_named_4 18 rfl rfl)
theorem dX7_named_113 : decode cX7_named 113 = .ok (.getfield 164, 3) := dk_180 0 164 (dk_at dksX7_named_4 19 rfl rfl)
theorem dX7_named_116 : decode cX7_named 116 = .ok (.iconst 1, 1) := dk_4 (dk_at dksX7_named_4 22 rfl rfl)
theorem dX7_named_117 : decode cX7_named 117 = .ok (.if_icmp .ne 32, 3) := dk_160 0 32 (dk_at dksX7_named_5 0 rfl rfl)
theorem dX7_named_120 : decode cX7_named 120 = .ok (.aload 4, 2) := dk_25 4 (dk_at dksX7_named_5 3 rfl rfl)
theorem dX7_named_122 : decode cX7_named 122 = .ok (.getstatic 174, 3) := dk_178 0 174 (dk_at dksX7_named_5 5 rfl rfl)
theorem dX7_named_125 : decode cX7_named 125 = .ok (.if_acmp .eq 24, 3) := dk_165 0 24 (dk_at dksX7_named_5 8 rfl rfl)
theorem dX7_named_128 : decode cX7_named 128 = .ok (.aload 4, 2) := dk_25 4 (dk_at dksX7_named_5 11 rfl rfl)
theorem dX7_named_130 : decode cX7_named 130 = .ok (.getstatic 180, 3) := dk_178 0 180 (dk_at dksX7_named_5 13 rfl rfl)
theorem dX7_named_133 : decode cX7_named 133 = .ok (.if_acmp .eq 16, 3) := dk_165 0 16 (dk_at dksX7_named_5 16 rfl rfl)
theorem dX7_named_136 : decode cX7_named 136 = .ok (.new 60, 3) := dk_187 0 60 (dk_at dksX7_named_5 19 rfl rfl)
theorem dX7_named_139 : decode cX7_named 139 = .ok (.dup, 1) := dk_89 (dk_at dksX7_named_5 22 rfl rfl)
theorem dX7_named_140 : decode cX7_named 140 = .ok (.iconst 2, 1) := dk_5 (dk_at dksX7_named_5 23 rfl rfl)
theorem dX7_named_141 : decode cX7_named 141 = .ok (.aload_n 0, 1) := dk_42 (dk_at dksX7_named_6 0 rfl rfl)
theorem dX7_named_142 : decode cX7_named 142 = .ok (.getfield 43, 3) := dk_180 0 43 (dk_at dksX7_named_6 1 rfl rfl)
theorem dX7_named_145 : decode cX7_named 145 = .ok (.invokespecial 62, 3) := dk_183 0 62 (dk_at dksX7_named_6 4 rfl rfl)
theorem dX7_named_148 : decode cX7_named 148 = .ok (.athrow, 1) := dk_191 (dk_at dksX7_named_6 7 rfl rfl)
theorem dX7_named_149 : decode cX7_named 149 = .ok (.aload_n 0, 1) := dk_42 (dk_at dksX7_named_6 8 rfl rfl)
theorem dX7_named_150 : decode cX7_named 150 = .ok (.invokevirtual 23, 3) := dk_182 0 23 (dk_at dksX7_named_6 9 rfl rfl)
theorem dX7_named_153 : decode cX7_named 153 = .ok (.aload_n 3, 1) := dk_45 (dk_at dksX7_named_6 12 rfl rfl)
theorem dX7_named_154 : decode cX7_named 154 = .ok (.getfield 164, 3) := dk_180 0 164 (dk_at dksX7_named_6 13 rfl rfl)
theorem dX7_named_157 : decode cX7_named 157 = .ok (.iconst 2, 1) := dk_5 (dk_at dksX7_named_6 16 rfl rfl)
theorem dX7_named_158 : decode cX7_named 158 = .ok (.if_icmp .ne 21, 3) := dk_160 0 21 (dk_at dksX7_named_6 17 rfl rfl)
theorem dX7_named_161 : decode cX7_named 161 = .ok (.new 183, 3) := dk_187 0 183 (dk_at dksX7_named_6 20 rfl rfl)
theorem dX7_named_164 : decode cX7_named 164 = .ok (.dup, 1) := dk_89 (dk_at dksX7_named_6 23 rfl rfl)
theorem dX7_named_165 : decode cX7_named 165 = .ok (.iload_n 1, 1) := dk_27 (dk_at dksX7_named_7 0 rfl rfl)
theorem dX7_named_166 : decode cX7_named 166 = .ok (.aload 4, 2) := dk_25 4 (dk_at dksX7_named_7 1 rfl rfl)
theorem dX7_named_168 : decode cX7_named 168 = .ok (.aload_n 0, 1) := dk_42 (dk_at dksX7_named_7 3 rfl rfl)
theorem dX7_named_169 : decode cX7_named 169 = .ok (.iconst 0, 1) := dk_3 (dk_at dksX7_named_7 4 rfl rfl)
theorem dX7_named_170 : decode cX7_named 170 = .ok (.ldc 185, 2) := dk_18 185 (dk_at dksX7_named_7 5 rfl rfl)
theorem dX7_named_172 : decode cX7_named 172 = .ok (.invokevirtual 186, 3) := dk_182 0 186 (dk_at dksX7_named_7 7 rfl rfl)
theorem dX7_named_175 : decode cX7_named 175 = .ok (.invokespecial 190, 3) := dk_183 0 190 (dk_at dksX7_named_7 10 rfl rfl)
theorem dX7_named_178 : decode cX7_named 178 = .ok (.areturn, 1) := dk_176 (dk_at dksX7_named_7 13 rfl rfl)
theorem dX7_named_179 : decode cX7_named 179 = .ok (.aload_n 0, 1) := dk_42 (dk_at dksX7_named_7 14 rfl rfl)
theorem dX7_named_180 : decode cX7_named 180 = .ok (.iconst 1, 1) := dk_4 (dk_at dksX7_named_7 15 rfl rfl)
theorem dX7_named_181 : decode cX7_named 181 = .ok (.invokevirtual 81, 3) := dk_182 0 81 (dk_at dksX7_named_7 16 rfl rfl)
theorem dX7_named_184 : decode cX7_named 184 = .ok (.aload_n 3, 1) := dk_45 (dk_at dksX7_named_7 19 rfl rfl)
theorem dX7_named_185 : decode cX7_named 185 = .ok (.aload_n 0, 1) := dk_42 (dk_at dksX7_named_7 20 rfl rfl)
theorem dX7_named_186 : decode cX7_named 186 = .ok (.getfield 53, 3) := dk_180 0 53 (dk_at dksX7_named_7 21 rfl rfl)
theorem dX7_named_189 : decode cX7_named 189 = .ok (.invokevirtual 193, 3) := dk_182 0 193 (dk_at dksX7_named_8 0 rfl rfl)
theorem dX7_named_192 : decode cX7_named 192 = .ok (.istore 5, 2) := dk_54 5 (dk_at dksX7_named_8 3 rfl rfl)
theorem dX7_named_194 : decode cX7_named 194 = .ok (.iload 5, 2) := dk_21 5 (dk_at dksX7_named_8 5 rfl rfl)
theorem dX7_named_196 : decode cX7_named 196 = .ok (.ifCond .ge 16, 3) := dk_156 0 16 (dk_at dksX7_named_8 7 rfl rfl)
theorem dX7_named_199 : decode cX7_named 199 = .ok (.new 60, 3) := dk_187 0 60 (dk_at dksX7_named_8 10 rfl rfl)
theorem dX7_named_202 : decode cX7_named 202 = .ok (.dup, 1) := dk_89 (dk_at dksX7_named_8 13 rfl rfl)
theorem dX7_named_203 : decode cX7_named 203 = .ok (.iconst 4, 1) := dk_7 (dk_at dksX7_named_8 14 rfl rfl)
theorem dX7_named_204 : decode cX7_named 204 = .ok (.aload_n 0, 1) := dk_42 (dk_at dksX7_named_8 15 rfl rfl)
theorem dX7_named_205 : decode cX7_named 205 = .ok (.getfield 43, 3) := dk_180 0 43 (dk_at dksX7_named_8 16 rfl rfl)
theorem dX7_named_208 : decode cX7_named 208 = .ok (.invokespecial 62, 3) := dk_183 0 62 (dk_at dksX7_named_8 19 rfl rfl)
theorem dX7_named_211 : decode cX7_named 211 = .ok (.athrow, 1) := dk_191 (dk_at dksX7_named_8 22 rfl rfl)
theorem dX7_named_212 : decode cX7_named 212 = .ok (.aload_n 0, 1) := dk_42 (dk_at dksX7_named_8 23 rfl rfl)
theorem dX7_named_213 : decode cX7_named 213 = .ok (.invokevirtual 23, 3) := dk_182 0 23 (dk_at dksX7_named_9 0 rfl rfl)
theorem dX7_named_216 : decode cX7_named 216 = .ok (.new 165, 3) := dk_187 0 165 (dk_at dksX7_named_9 3 rfl rfl)
theorem dX7_named_219 : decode cX7_named 219 = .ok (.dup, 1) := dk_89 (dk_at dksX7_named_9 6 rfl rfl)
theorem dX7_named_220 : decode cX7_named 220 = .ok (.iload_n 1, 1) := dk_27 (dk_at dksX7_named_9 7 rfl rfl)
theorem dX7_named_221 : decode cX7_named 221 = .ok (.iload 5, 2) := dk_21 5 (dk_at dksX7_named_9 8 rfl rfl)
theorem dX7_named_223 : decode cX7_named 223 = .ok (.aload 4, 2) := dk_25 4 (dk_at dksX7_named_9 10 rfl rfl)
theorem dX7_named_225 : decode cX7_named 225 = .ok (.getstatic 180, 3) := dk_178 0 180 (dk_at dksX7_named_9 12 rfl rfl)
theorem dX7_named_228 : decode cX7_named 228 = .ok (.if_acmp .ne 7, 3) := dk_166 0 7 (dk_at dksX7_named_9 15 rfl rfl)
theorem dX7_named_231 : decode cX7_named 231 = .ok (.iconst 1, 1) := dk_4 (dk_at dksX7_named_9 18 rfl rfl)
theorem dX7_named_232 : decode cX7_named 232 = .ok (.goto 4, 3) := dk_167 0 4 (dk_at dksX7_named_9 19 rfl rfl)
theorem dX7_named_235 : decode cX7_named 235 = .ok (.iconst 0, 1) := dk_3 (dk_at dksX7_named_9 22 rfl rfl)
theorem dX7_named_236 : decode cX7_named 236 = .ok (.invokespecial 167, 3) := dk_183 0 167 (dk_at dksX7_named_10 0 rfl rfl)
theorem dX7_named_239 : decode cX7_named 239 = .ok (.areturn, 1) := dk_176 (dk_at dksX7_named_10 3 rfl rfl)
abbrev cX7_signAtHand : ByteArray := prog_18_method_19_code
def yX7_signAtHand : MethodName := ⟨RX7, "signAtHand", "()LCoverHouse$Sign;"⟩
def dkwX7_signAtHand_4 : List UInt8 := [176]
abbrev dktX7_signAtHand_4 : List UInt8 := dkwX7_signAtHand_4 ++ []
def dkwX7_signAtHand_3 : List UInt8 := [160, 0, 7, 178, 0, 205, 176, 42, 180, 0, 76, 17, 60, 62, 160, 0, 9, 178, 0, 180, 167, 0, 4, 1]
abbrev dktX7_signAtHand_3 : List UInt8 := dkwX7_signAtHand_3 ++ dktX7_signAtHand_4
def dkwX7_signAtHand_2 : List UInt8 := [176, 42, 180, 0, 76, 17, 60, 61, 160, 0, 7, 178, 0, 202, 176, 42, 180, 0, 76, 17, 62, 61]
abbrev dktX7_signAtHand_2 : List UInt8 := dkwX7_signAtHand_2 ++ dktX7_signAtHand_3
def dkwX7_signAtHand_1 : List UInt8 := [180, 0, 76, 16, 60, 160, 0, 7, 178, 0, 196, 176, 42, 180, 0, 76, 16, 62, 160, 0, 7, 178, 0, 199]
abbrev dktX7_signAtHand_1 : List UInt8 := dkwX7_signAtHand_1 ++ dktX7_signAtHand_2
def dkwX7_signAtHand_0 : List UInt8 := [42, 180, 0, 46, 6, 159, 0, 5, 1, 176, 42, 180, 0, 76, 16, 61, 160, 0, 7, 178, 0, 174, 176, 42]
abbrev dktX7_signAtHand_0 : List UInt8 := dkwX7_signAtHand_0 ++ dktX7_signAtHand_1
theorem dksX7_signAtHand_0 : cX7_signAtHand.data.toList.drop 0 = dktX7_signAtHand_0 := by decide +kernel
theorem dksX7_signAtHand_1 : cX7_signAtHand.data.toList.drop 24 = dktX7_signAtHand_1 := dk_seg dksX7_signAtHand_0 24 rfl rfl
theorem dksX7_signAtHand_2 : cX7_signAtHand.data.toList.drop 48 = dktX7_signAtHand_2 := dk_seg dksX7_signAtHand_1 24 rfl rfl
theorem dksX7_signAtHand_3 : cX7_signAtHand.data.toList.drop 70 = dktX7_signAtHand_3 := dk_seg dksX7_signAtHand_2 22 rfl rfl
theorem dksX7_signAtHand_4 : cX7_signAtHand.data.toList.drop 94 = dktX7_signAtHand_4 := dk_seg dksX7_signAtHand_3 24 rfl rfl
theorem dX7_signAtHand_0 : decode cX7_signAtHand 0 = .ok (.aload_n 0, 1) := dk_42 (dk_at dksX7_signAtHand_0 0 rfl rfl)
theorem dX7_signAtHand_1 : decode cX7_signAtHand 1 = .ok (.getfield 46, 3) := dk_180 0 46 (dk_at dksX7_signAtHand_0 1 rfl rfl)
theorem dX7_signAtHand_4 : decode cX7_signAtHand 4 = .ok (.iconst 3, 1) := dk_6 (dk_at dksX7_signAtHand_0 4 rfl rfl)
theorem dX7_signAtHand_5 : decode cX7_signAtHand 5 = .ok (.if_icmp .eq 5, 3) := dk_159 0 5 (dk_at dksX7_signAtHand_0 5 rfl rfl)
theorem dX7_signAtHand_8 : decode cX7_signAtHand 8 = .ok (.aconst_null, 1) := dk_1 (dk_at dksX7_signAtHand_0 8 rfl rfl)
theorem dX7_signAtHand_9 : decode cX7_signAtHand 9 = .ok (.areturn, 1) := dk_176 (dk_at dksX7_signAtHand_0 9 rfl rfl)
theorem dX7_signAtHand_10 : decode cX7_signAtHand 10 = .ok (.aload_n 0, 1) := dk_42 (dk_at dksX7_signAtHand_0 10 rfl rfl)
theorem dX7_signAtHand_11 : decode cX7_signAtHand 11 = .ok (.getfield 76, 3) := dk_180 0 76 (dk_at dksX7_signAtHand_0 11 rfl rfl)
theorem dX7_signAtHand_14 : decode cX7_signAtHand 14 = .ok (.bipush 61, 2) := dk_16 61 (dk_at dksX7_signAtHand_0 14 rfl rfl)
theorem dX7_signAtHand_16 : decode cX7_signAtHand 16 = .ok (.if_icmp .ne 7, 3) := dk_160 0 7 (dk_at dksX7_signAtHand_0 16 rfl rfl)
theorem dX7_signAtHand_19 : decode cX7_signAtHand 19 = .ok (.getstatic 174, 3) := dk_178 0 174 (dk_at dksX7_signAtHand_0 19 rfl rfl)
theorem dX7_signAtHand_22 : decode cX7_signAtHand 22 = .ok (.areturn, 1) := dk_176 (dk_at dksX7_signAtHand_0 22 rfl rfl)
theorem dX7_signAtHand_23 : decode cX7_signAtHand 23 = .ok (.aload_n 0, 1) := dk_42 (dk_at dksX7_signAtHand_0 23 rfl rfl)
theorem dX7_signAtHand_24 : decode cX7_signAtHand 24 = .ok (.getfield 76, 3) := dk_180 0 76 (dk_at dksX7_signAtHand_1 0 rfl rfl)
theorem dX7_signAtHand_27 : decode cX7_signAtHand 27 = .ok (.bipush 60, 2) := dk_16 60 (dk_at dksX7_signAtHand_1 3 rfl rfl)
theorem dX7_signAtHand_29 : decode cX7_signAtHand 29 = .ok (.if_icmp .ne 7, 3) := dk_160 0 7 (dk_at dksX7_signAtHand_1 5 rfl rfl)
theorem dX7_signAtHand_32 : decode cX7_signAtHand 32 = .ok (.getstatic 196, 3) := dk_178 0 196 (dk_at dksX7_signAtHand_1 8 rfl rfl)
theorem dX7_signAtHand_35 : decode cX7_signAtHand 35 = .ok (.areturn, 1) := dk_176 (dk_at dksX7_signAtHand_1 11 rfl rfl)
theorem dX7_signAtHand_36 : decode cX7_signAtHand 36 = .ok (.aload_n 0, 1) := dk_42 (dk_at dksX7_signAtHand_1 12 rfl rfl)
theorem dX7_signAtHand_37 : decode cX7_signAtHand 37 = .ok (.getfield 76, 3) := dk_180 0 76 (dk_at dksX7_signAtHand_1 13 rfl rfl)
theorem dX7_signAtHand_40 : decode cX7_signAtHand 40 = .ok (.bipush 62, 2) := dk_16 62 (dk_at dksX7_signAtHand_1 16 rfl rfl)
theorem dX7_signAtHand_42 : decode cX7_signAtHand 42 = .ok (.if_icmp .ne 7, 3) := dk_160 0 7 (dk_at dksX7_signAtHand_1 18 rfl rfl)
theorem dX7_signAtHand_45 : decode cX7_signAtHand 45 = .ok (.getstatic 199, 3) := dk_178 0 199 (dk_at dksX7_signAtHand_1 21 rfl rfl)
theorem dX7_signAtHand_48 : decode cX7_signAtHand 48 = .ok (.areturn, 1) := dk_176 (dk_at dksX7_signAtHand_2 0 rfl rfl)
theorem dX7_signAtHand_49 : decode cX7_signAtHand 49 = .ok (.aload_n 0, 1) := dk_42 (dk_at dksX7_signAtHand_2 1 rfl rfl)
theorem dX7_signAtHand_50 : decode cX7_signAtHand 50 = .ok (.getfield 76, 3) := dk_180 0 76 (dk_at dksX7_signAtHand_2 2 rfl rfl)
theorem dX7_signAtHand_53 : decode cX7_signAtHand 53 = .ok (.sipush 15421, 3) := dk_17 60 61 (dk_at dksX7_signAtHand_2 5 rfl rfl)
theorem dX7_signAtHand_56 : decode cX7_signAtHand 56 = .ok (.if_icmp .ne 7, 3) := dk_160 0 7 (dk_at dksX7_signAtHand_2 8 rfl rfl)
theorem dX7_signAtHand_59 : decode cX7_signAtHand 59 = .ok (.getstatic 202, 3) := dk_178 0 202 (dk_at dksX7_signAtHand_2 11 rfl rfl)
theorem dX7_signAtHand_62 : decode cX7_signAtHand 62 = .ok (.areturn, 1) := dk_176 (dk_at dksX7_signAtHand_2 14 rfl rfl)
theorem dX7_signAtHand_63 : decode cX7_signAtHand 63 = .ok (.aload_n 0, 1) := dk_42 (dk_at dksX7_signAtHand_2 15 rfl rfl)
theorem dX7_signAtHand_64 : decode cX7_signAtHand 64 = .ok (.getfield 76, 3) := dk_180 0 76 (dk_at dksX7_signAtHand_2 16 rfl rfl)
theorem dX7_signAtHand_67 : decode cX7_signAtHand 67 = .ok (.sipush 15933, 3) := dk_17 62 61 (dk_at dksX7_signAtHand_2 19 rfl rfl)
theorem dX7_signAtHand_70 : decode cX7_signAtHand 70 = .ok (.if_icmp .ne 7, 3) := dk_160 0 7 (dk_at dksX7_signAtHand_3 0 rfl rfl)
theorem dX7_signAtHand_73 : decode cX7_signAtHand 73 = .ok (.getstatic 205, 3) := dk_178 0 205 (dk_at dksX7_signAtHand_3 3 rfl rfl)
theorem dX7_signAtHand_76 : decode cX7_signAtHand 76 = .ok (.areturn, 1) := dk_176 (dk_at dksX7_signAtHand_3 6 rfl rfl)
theorem dX7_signAtHand_77 : decode cX7_signAtHand 77 = .ok (.aload_n 0, 1) := dk_42 (dk_at dksX7_signAtHand_3 7 rfl rfl)
theorem dX7_signAtHand_78 : decode cX7_signAtHand 78 = .ok (.getfield 76, 3) := dk_180 0 76 (dk_at dksX7_signAtHand_3 8 rfl rfl)
theorem dX7_signAtHand_81 : decode cX7_signAtHand 81 = .ok (.sipush 15422, 3) := dk_17 60 62 (dk_at dksX7_signAtHand_3 11 rfl rfl)
theorem dX7_signAtHand_84 : decode cX7_signAtHand 84 = .ok (.if_icmp .ne 9, 3) := dk_160 0 9 (dk_at dksX7_signAtHand_3 14 rfl rfl)
theorem dX7_signAtHand_87 : decode cX7_signAtHand 87 = .ok (.getstatic 180, 3) := dk_178 0 180 (dk_at dksX7_signAtHand_3 17 rfl rfl)
theorem dX7_signAtHand_90 : decode cX7_signAtHand 90 = .ok (.goto 4, 3) := dk_167 0 4 (dk_at dksX7_signAtHand_3 20 rfl rfl)
theorem dX7_signAtHand_93 : decode cX7_signAtHand 93 = .ok (.aconst_null, 1) := dk_1 (dk_at dksX7_signAtHand_3 23 rfl rfl)
theorem dX7_signAtHand_94 : decode cX7_signAtHand 94 = .ok (.areturn, 1) := dk_176 (dk_at dksX7_signAtHand_4 0 rfl rfl)
abbrev cX7_isClause : ByteArray := prog_18_method_20_code
def yX7_isClause : MethodName := ⟨RX7, "isClause", "()Z"⟩
def dkwX7_isClause_1 : List UInt8 := [182, 0, 99, 153, 0, 7, 4, 167, 0, 4, 3, 172]
abbrev dktX7_isClause_1 : List UInt8 := dkwX7_isClause_1 ++ []
def dkwX7_isClause_0 : List UInt8 := [42, 20, 0, 208, 182, 0, 99, 154, 0, 23, 42, 20, 0, 210, 182, 0, 99, 154, 0, 13, 42, 20, 0, 212]
abbrev dktX7_isClause_0 : List UInt8 := dkwX7_isClause_0 ++ dktX7_isClause_1
theorem dksX7_isClause_0 : cX7_isClause.data.toList.drop 0 = dktX7_isClause_0 := by decide +kernel
theorem dksX7_isClause_1 : cX7_isClause.data.toList.drop 24 = dktX7_isClause_1 := dk_seg dksX7_isClause_0 24 rfl rfl
theorem dX7_isClause_0 : decode cX7_isClause 0 = .ok (.aload_n 0, 1) := dk_42 (dk_at dksX7_isClause_0 0 rfl rfl)
theorem dX7_isClause_1 : decode cX7_isClause 1 = .ok (.ldc2_w 208, 3) := dk_20 0 208 (dk_at dksX7_isClause_0 1 rfl rfl)
theorem dX7_isClause_4 : decode cX7_isClause 4 = .ok (.invokevirtual 99, 3) := dk_182 0 99 (dk_at dksX7_isClause_0 4 rfl rfl)
theorem dX7_isClause_7 : decode cX7_isClause 7 = .ok (.ifCond .ne 23, 3) := dk_154 0 23 (dk_at dksX7_isClause_0 7 rfl rfl)
theorem dX7_isClause_10 : decode cX7_isClause 10 = .ok (.aload_n 0, 1) := dk_42 (dk_at dksX7_isClause_0 10 rfl rfl)
theorem dX7_isClause_11 : decode cX7_isClause 11 = .ok (.ldc2_w 210, 3) := dk_20 0 210 (dk_at dksX7_isClause_0 11 rfl rfl)
theorem dX7_isClause_14 : decode cX7_isClause 14 = .ok (.invokevirtual 99, 3) := dk_182 0 99 (dk_at dksX7_isClause_0 14 rfl rfl)
theorem dX7_isClause_17 : decode cX7_isClause 17 = .ok (.ifCond .ne 13, 3) := dk_154 0 13 (dk_at dksX7_isClause_0 17 rfl rfl)
theorem dX7_isClause_20 : decode cX7_isClause 20 = .ok (.aload_n 0, 1) := dk_42 (dk_at dksX7_isClause_0 20 rfl rfl)
theorem dX7_isClause_21 : decode cX7_isClause 21 = .ok (.ldc2_w 212, 3) := dk_20 0 212 (dk_at dksX7_isClause_0 21 rfl rfl)
theorem dX7_isClause_24 : decode cX7_isClause 24 = .ok (.invokevirtual 99, 3) := dk_182 0 99 (dk_at dksX7_isClause_1 0 rfl rfl)
theorem dX7_isClause_27 : decode cX7_isClause 27 = .ok (.ifCond .eq 7, 3) := dk_153 0 7 (dk_at dksX7_isClause_1 3 rfl rfl)
theorem dX7_isClause_30 : decode cX7_isClause 30 = .ok (.iconst 1, 1) := dk_4 (dk_at dksX7_isClause_1 6 rfl rfl)
theorem dX7_isClause_31 : decode cX7_isClause 31 = .ok (.goto 4, 3) := dk_167 0 4 (dk_at dksX7_isClause_1 7 rfl rfl)
theorem dX7_isClause_34 : decode cX7_isClause 34 = .ok (.iconst 0, 1) := dk_3 (dk_at dksX7_isClause_1 10 rfl rfl)
theorem dX7_isClause_35 : decode cX7_isClause 35 = .ok (.ireturn, 1) := dk_172 (dk_at dksX7_isClause_1 11 rfl rfl)
abbrev cX7_clause : ByteArray := prog_18_method_21_code
def yX7_clause : MethodName := ⟨RX7, "clause", "()LCoverHouse$Clause;"⟩
def dkwX7_clause_2 : List UInt8 := [182, 0, 136, 187, 0, 214, 89, 27, 45, 42, 180, 0, 84, 28, 100, 183, 0, 216, 176]
abbrev dktX7_clause_2 : List UInt8 := dkwX7_clause_2 ++ []
def dkwX7_clause_1 : List UInt8 := [4, 167, 0, 4, 5, 60, 42, 182, 0, 23, 42, 180, 0, 84, 61, 42, 182, 0, 133, 78, 42, 16, 59]
abbrev dktX7_clause_1 : List UInt8 := dkwX7_clause_1 ++ dktX7_clause_2
def dkwX7_clause_0 : List UInt8 := [42, 20, 0, 208, 182, 0, 99, 153, 0, 7, 3, 167, 0, 18, 42, 20, 0, 210, 182, 0, 99, 153, 0, 7]
abbrev dktX7_clause_0 : List UInt8 := dkwX7_clause_0 ++ dktX7_clause_1
theorem dksX7_clause_0 : cX7_clause.data.toList.drop 0 = dktX7_clause_0 := by decide +kernel
theorem dksX7_clause_1 : cX7_clause.data.toList.drop 24 = dktX7_clause_1 := dk_seg dksX7_clause_0 24 rfl rfl
theorem dksX7_clause_2 : cX7_clause.data.toList.drop 47 = dktX7_clause_2 := dk_seg dksX7_clause_1 23 rfl rfl
theorem dX7_clause_0 : decode cX7_clause 0 = .ok (.aload_n 0, 1) := dk_42 (dk_at dksX7_clause_0 0 rfl rfl)
theorem dX7_clause_1 : decode cX7_clause 1 = .ok (.ldc2_w 208, 3) := dk_20 0 208 (dk_at dksX7_clause_0 1 rfl rfl)
theorem dX7_clause_4 : decode cX7_clause 4 = .ok (.invokevirtual 99, 3) := dk_182 0 99 (dk_at dksX7_clause_0 4 rfl rfl)
theorem dX7_clause_7 : decode cX7_clause 7 = .ok (.ifCond .eq 7, 3) := dk_153 0 7 (dk_at dksX7_clause_0 7 rfl rfl)
theorem dX7_clause_10 : decode cX7_clause 10 = .ok (.iconst 0, 1) := dk_3 (dk_at dksX7_clause_0 10 rfl rfl)
theorem dX7_clause_11 : decode cX7_clause 11 = .ok (.goto 18, 3) := dk_167 0 18 (dk_at dksX7_clause_0 11 rfl rfl)
theorem dX7_clause_14 : decode cX7_clause 14 = .ok (.aload_n 0, 1) := dk_42 (dk_at dksX7_clause_0 14 rfl rfl)
theorem dX7_clause_15 : decode cX7_clause 15 = .ok (.ldc2_w 210, 3) := dk_20 0 210 (dk_at dksX7_clause_0 15 rfl rfl)
theorem dX7_clause_18 : decode cX7_clause 18 = .ok (.invokevirtual 99, 3) := dk_182 0 99 (dk_at dksX7_clause_0 18 rfl rfl)
theorem dX7_clause_21 : decode cX7_clause 21 = .ok (.ifCond .eq 7, 3) := dk_153 0 7 (dk_at dksX7_clause_0 21 rfl rfl)
theorem dX7_clause_24 : decode cX7_clause 24 = .ok (.iconst 1, 1) := dk_4 (dk_at dksX7_clause_1 0 rfl rfl)
theorem dX7_clause_25 : decode cX7_clause 25 = .ok (.goto 4, 3) := dk_167 0 4 (dk_at dksX7_clause_1 1 rfl rfl)
theorem dX7_clause_28 : decode cX7_clause 28 = .ok (.iconst 2, 1) := dk_5 (dk_at dksX7_clause_1 4 rfl rfl)
theorem dX7_clause_29 : decode cX7_clause 29 = .ok (.istore_n 1, 1) := dk_60 (dk_at dksX7_clause_1 5 rfl rfl)
theorem dX7_clause_30 : decode cX7_clause 30 = .ok (.aload_n 0, 1) := dk_42 (dk_at dksX7_clause_1 6 rfl rfl)
theorem dX7_clause_31 : decode cX7_clause 31 = .ok (.invokevirtual 23, 3) := dk_182 0 23 (dk_at dksX7_clause_1 7 rfl rfl)
theorem dX7_clause_34 : decode cX7_clause 34 = .ok (.aload_n 0, 1) := dk_42 (dk_at dksX7_clause_1 10 rfl rfl)
theorem dX7_clause_35 : decode cX7_clause 35 = .ok (.getfield 84, 3) := dk_180 0 84 (dk_at dksX7_clause_1 11 rfl rfl)
theorem dX7_clause_38 : decode cX7_clause 38 = .ok (.istore_n 2, 1) := dk_61 (dk_at dksX7_clause_1 14 rfl rfl)
theorem dX7_clause_39 : decode cX7_clause 39 = .ok (.aload_n 0, 1) := dk_42 (dk_at dksX7_clause_1 15 rfl rfl)
theorem dX7_clause_40 : decode cX7_clause 40 = .ok (.invokevirtual 133, 3) := dk_182 0 133 (dk_at dksX7_clause_1 16 rfl rfl)
theorem dX7_clause_43 : decode cX7_clause 43 = .ok (.astore_n 3, 1) := dk_78 (dk_at dksX7_clause_1 19 rfl rfl)
theorem dX7_clause_44 : decode cX7_clause 44 = .ok (.aload_n 0, 1) := dk_42 (dk_at dksX7_clause_1 20 rfl rfl)
theorem dX7_clause_45 : decode cX7_clause 45 = .ok (.bipush 59, 2) := dk_16 59 (dk_at dksX7_clause_1 21 rfl rfl)
theorem dX7_clause_47 : decode cX7_clause 47 = .ok (.invokevirtual 136, 3) := dk_182 0 136 (dk_at dksX7_clause_2 0 rfl rfl)
theorem dX7_clause_50 : decode cX7_clause 50 = .ok (.new 214, 3) := dk_187 0 214 (dk_at dksX7_clause_2 3 rfl rfl)
theorem dX7_clause_53 : decode cX7_clause 53 = .ok (.dup, 1) := dk_89 (dk_at dksX7_clause_2 6 rfl rfl)
theorem dX7_clause_54 : decode cX7_clause 54 = .ok (.iload_n 1, 1) := dk_27 (dk_at dksX7_clause_2 7 rfl rfl)
theorem dX7_clause_55 : decode cX7_clause 55 = .ok (.aload_n 3, 1) := dk_45 (dk_at dksX7_clause_2 8 rfl rfl)
theorem dX7_clause_56 : decode cX7_clause 56 = .ok (.aload_n 0, 1) := dk_42 (dk_at dksX7_clause_2 9 rfl rfl)
theorem dX7_clause_57 : decode cX7_clause 57 = .ok (.getfield 84, 3) := dk_180 0 84 (dk_at dksX7_clause_2 10 rfl rfl)
theorem dX7_clause_60 : decode cX7_clause 60 = .ok (.iload_n 2, 1) := dk_28 (dk_at dksX7_clause_2 13 rfl rfl)
theorem dX7_clause_61 : decode cX7_clause 61 = .ok (.isub, 1) := dk_100 (dk_at dksX7_clause_2 14 rfl rfl)
theorem dX7_clause_62 : decode cX7_clause 62 = .ok (.invokespecial 216, 3) := dk_183 0 216 (dk_at dksX7_clause_2 15 rfl rfl)
theorem dX7_clause_65 : decode cX7_clause 65 = .ok (.areturn, 1) := dk_176 (dk_at dksX7_clause_2 18 rfl rfl)
abbrev cX7_sum : ByteArray := prog_18_method_26_code
def yX7_sum : MethodName := ⟨RX7, "sum", "(II)I"⟩
def dkwX7_sum_1 : List UInt8 := [28, 182, 0, 186, 62, 42, 16, 59, 182, 0, 136, 29, 172]
abbrev dktX7_sum_1 : List UInt8 := dkwX7_sum_1 ++ []
def dkwX7_sum_0 : List UInt8 := [27, 155, 0, 17, 187, 0, 60, 89, 16, 6, 42, 180, 0, 43, 183, 0, 62, 191, 42, 182, 0, 23, 42, 3]
abbrev dktX7_sum_0 : List UInt8 := dkwX7_sum_0 ++ dktX7_sum_1
theorem dksX7_sum_0 : cX7_sum.data.toList.drop 0 = dktX7_sum_0 := by decide +kernel
theorem dksX7_sum_1 : cX7_sum.data.toList.drop 24 = dktX7_sum_1 := dk_seg dksX7_sum_0 24 rfl rfl
theorem dX7_sum_0 : decode cX7_sum 0 = .ok (.iload_n 1, 1) := dk_27 (dk_at dksX7_sum_0 0 rfl rfl)
theorem dX7_sum_1 : decode cX7_sum 1 = .ok (.ifCond .lt 17, 3) := dk_155 0 17 (dk_at dksX7_sum_0 1 rfl rfl)
theorem dX7_sum_4 : decode cX7_sum 4 = .ok (.new 60, 3) := dk_187 0 60 (dk_at dksX7_sum_0 4 rfl rfl)
theorem dX7_sum_7 : decode cX7_sum 7 = .ok (.dup, 1) := dk_89 (dk_at dksX7_sum_0 7 rfl rfl)
theorem dX7_sum_8 : decode cX7_sum 8 = .ok (.bipush 6, 2) := dk_16 6 (dk_at dksX7_sum_0 8 rfl rfl)
theorem dX7_sum_10 : decode cX7_sum 10 = .ok (.aload_n 0, 1) := dk_42 (dk_at dksX7_sum_0 10 rfl rfl)
theorem dX7_sum_11 : decode cX7_sum 11 = .ok (.getfield 43, 3) := dk_180 0 43 (dk_at dksX7_sum_0 11 rfl rfl)
theorem dX7_sum_14 : decode cX7_sum 14 = .ok (.invokespecial 62, 3) := dk_183 0 62 (dk_at dksX7_sum_0 14 rfl rfl)
theorem dX7_sum_17 : decode cX7_sum 17 = .ok (.athrow, 1) := dk_191 (dk_at dksX7_sum_0 17 rfl rfl)
theorem dX7_sum_18 : decode cX7_sum 18 = .ok (.aload_n 0, 1) := dk_42 (dk_at dksX7_sum_0 18 rfl rfl)
theorem dX7_sum_19 : decode cX7_sum 19 = .ok (.invokevirtual 23, 3) := dk_182 0 23 (dk_at dksX7_sum_0 19 rfl rfl)
theorem dX7_sum_22 : decode cX7_sum 22 = .ok (.aload_n 0, 1) := dk_42 (dk_at dksX7_sum_0 22 rfl rfl)
theorem dX7_sum_23 : decode cX7_sum 23 = .ok (.iconst 0, 1) := dk_3 (dk_at dksX7_sum_0 23 rfl rfl)
theorem dX7_sum_24 : decode cX7_sum 24 = .ok (.iload_n 2, 1) := dk_28 (dk_at dksX7_sum_1 0 rfl rfl)
theorem dX7_sum_25 : decode cX7_sum 25 = .ok (.invokevirtual 186, 3) := dk_182 0 186 (dk_at dksX7_sum_1 1 rfl rfl)
theorem dX7_sum_28 : decode cX7_sum 28 = .ok (.istore_n 3, 1) := dk_62 (dk_at dksX7_sum_1 4 rfl rfl)
theorem dX7_sum_29 : decode cX7_sum 29 = .ok (.aload_n 0, 1) := dk_42 (dk_at dksX7_sum_1 5 rfl rfl)
theorem dX7_sum_30 : decode cX7_sum 30 = .ok (.bipush 59, 2) := dk_16 59 (dk_at dksX7_sum_1 6 rfl rfl)
theorem dX7_sum_32 : decode cX7_sum 32 = .ok (.invokevirtual 136, 3) := dk_182 0 136 (dk_at dksX7_sum_1 8 rfl rfl)
theorem dX7_sum_35 : decode cX7_sum 35 = .ok (.iload_n 3, 1) := dk_29 (dk_at dksX7_sum_1 11 rfl rfl)
theorem dX7_sum_36 : decode cX7_sum 36 = .ok (.ireturn, 1) := dk_172 (dk_at dksX7_sum_1 12 rfl rfl)
abbrev cX7_most : ByteArray := prog_18_method_27_code
def yX7_most : MethodName := ⟨RX7, "most", "()V"⟩
def dkwX7_most_5 : List UInt8 := [28, 27, 79, 177]
abbrev dktX7_most_5 : List UInt8 := dkwX7_most_5 ++ []
def dkwX7_most_4 : List UInt8 := [180, 0, 43, 183, 0, 62, 191, 42, 182, 0, 23, 42, 16, 59, 182, 0, 136, 42, 180, 0, 15, 180, 1, 19]
abbrev dktX7_most_4 : List UInt8 := dkwX7_most_4 ++ dktX7_most_5
def dkwX7_most_3 : List UInt8 := [183, 0, 62, 191, 42, 180, 0, 15, 180, 1, 19, 28, 46, 155, 0, 17, 187, 0, 60, 89, 16, 6, 42]
abbrev dktX7_most_3 : List UInt8 := dkwX7_most_3 ++ dktX7_most_4
def dkwX7_most_2 : List UInt8 := [153, 0, 7, 5, 167, 0, 4, 2, 61, 28, 156, 0, 16, 187, 0, 60, 89, 5, 42, 180, 0, 43]
abbrev dktX7_most_2 : List UInt8 := dkwX7_most_2 ++ dktX7_most_3
def dkwX7_most_1 : List UInt8 := [167, 0, 32, 42, 20, 1, 15, 182, 0, 99, 153, 0, 7, 4, 167, 0, 18, 42, 20, 1, 17, 182, 0, 99]
abbrev dktX7_most_1 : List UInt8 := dkwX7_most_1 ++ dktX7_most_2
def dkwX7_most_0 : List UInt8 := [42, 182, 0, 23, 42, 3, 19, 1, 12, 182, 0, 186, 60, 42, 20, 1, 13, 182, 0, 99, 153, 0, 7, 3]
abbrev dktX7_most_0 : List UInt8 := dkwX7_most_0 ++ dktX7_most_1
theorem dksX7_most_0 : cX7_most.data.toList.drop 0 = dktX7_most_0 := by decide +kernel
theorem dksX7_most_1 : cX7_most.data.toList.drop 24 = dktX7_most_1 := dk_seg dksX7_most_0 24 rfl rfl
theorem dksX7_most_2 : cX7_most.data.toList.drop 48 = dktX7_most_2 := dk_seg dksX7_most_1 24 rfl rfl
theorem dksX7_most_3 : cX7_most.data.toList.drop 70 = dktX7_most_3 := dk_seg dksX7_most_2 22 rfl rfl
theorem dksX7_most_4 : cX7_most.data.toList.drop 93 = dktX7_most_4 := dk_seg dksX7_most_3 23 rfl rfl
theorem dksX7_most_5 : cX7_most.data.toList.drop 117 = dktX7_most_5 := dk_seg dksX7_most_4 24 rfl rfl
theorem dX7_most_0 : decode cX7_most 0 = .ok (.aload_n 0, 1) := dk_42 (dk_at dksX7_most_0 0 rfl rfl)
theorem dX7_most_1 : decode cX7_most 1 = .ok (.invokevirtual 23, 3) := dk_182 0 23 (dk_at dksX7_most_0 1 rfl rfl)
theorem dX7_most_4 : decode cX7_most 4 = .ok (.aload_n 0, 1) := dk_42 (dk_at dksX7_most_0 4 rfl rfl)
theorem dX7_most_5 : decode cX7_most 5 = .ok (.iconst 0, 1) := dk_3 (dk_at dksX7_most_0 5 rfl rfl)
theorem dX7_most_6 : decode cX7_most 6 = .ok (.ldc_w 268, 3) := dk_19 1 12 (dk_at dksX7_most_0 6 rfl rfl)
theorem dX7_most_9 : decode cX7_most 9 = .ok (.invokevirtual 186, 3) := dk_182 0 186 (dk_at dksX7_most_0 9 rfl rfl)
theorem dX7_most_12 : decode cX7_most 12 = .ok (.istore_n 1, 1) := dk_60 (dk_at dksX7_most_0 12 rfl rfl)
theorem dX7_most_13 : decode cX7_most 13 = .ok (.aload_n 0, 1) := dk_42 (dk_at dksX7_most_0 13 rfl rfl)
theorem dX7_most_14 : decode cX7_most 14 = .ok (.ldc2_w 269, 3) := dk_20 1 13 (dk_at dksX7_most_0 14 rfl rfl)
theorem dX7_most_17 : decode cX7_most 17 = .ok (.invokevirtual 99, 3) := dk_182 0 99 (dk_at dksX7_most_0 17 rfl rfl)
theorem dX7_most_20 : decode cX7_most 20 = .ok (.ifCond .eq 7, 3) := dk_153 0 7 (dk_at dksX7_most_0 20 rfl rfl)
theorem dX7_most_23 : decode cX7_most 23 = .ok (.iconst 0, 1) := dk_3 (dk_at dksX7_most_0 23 rfl rfl)
theorem dX7_most_24 : decode cX7_most 24 = .ok (.goto 32, 3) := dk_167 0 32 (dk_at dksX7_most_1 0 rfl rfl)
theorem dX7_most_27 : decode cX7_most 27 = .ok (.aload_n 0, 1) := dk_42 (dk_at dksX7_most_1 3 rfl rfl)
theorem dX7_most_28 : decode cX7_most 28 = .ok (.ldc2_w 271, 3) := dk_20 1 15 (dk_at dksX7_most_1 4 rfl rfl)
theorem dX7_most_31 : decode cX7_most 31 = .ok (.invokevirtual 99, 3) := dk_182 0 99 (dk_at dksX7_most_1 7 rfl rfl)
theorem dX7_most_34 : decode cX7_most 34 = .ok (.ifCond .eq 7, 3) := dk_153 0 7 (dk_at dksX7_most_1 10 rfl rfl)
theorem dX7_most_37 : decode cX7_most 37 = .ok (.iconst 1, 1) := dk_4 (dk_at dksX7_most_1 13 rfl rfl)
theorem dX7_most_38 : decode cX7_most 38 = .ok (.goto 18, 3) := dk_167 0 18 (dk_at dksX7_most_1 14 rfl rfl)
theorem dX7_most_41 : decode cX7_most 41 = .ok (.aload_n 0, 1) := dk_42 (dk_at dksX7_most_1 17 rfl rfl)
theorem dX7_most_42 : decode cX7_most 42 = .ok (.ldc2_w 273, 3) := dk_20 1 17 (dk_at dksX7_most_1 18 rfl rfl)
theorem dX7_most_45 : decode cX7_most 45 = .ok (.invokevirtual 99, 3) := dk_182 0 99 (dk_at dksX7_most_1 21 rfl rfl)
theorem dX7_most_48 : decode cX7_most 48 = .ok (.ifCond .eq 7, 3) := dk_153 0 7 (dk_at dksX7_most_2 0 rfl rfl)
theorem dX7_most_51 : decode cX7_most 51 = .ok (.iconst 2, 1) := dk_5 (dk_at dksX7_most_2 3 rfl rfl)
theorem dX7_most_52 : decode cX7_most 52 = .ok (.goto 4, 3) := dk_167 0 4 (dk_at dksX7_most_2 4 rfl rfl)
theorem dX7_most_55 : decode cX7_most 55 = .ok (.iconst (-1), 1) := dk_2 (dk_at dksX7_most_2 7 rfl rfl)
theorem dX7_most_56 : decode cX7_most 56 = .ok (.istore_n 2, 1) := dk_61 (dk_at dksX7_most_2 8 rfl rfl)
theorem dX7_most_57 : decode cX7_most 57 = .ok (.iload_n 2, 1) := dk_28 (dk_at dksX7_most_2 9 rfl rfl)
theorem dX7_most_58 : decode cX7_most 58 = .ok (.ifCond .ge 16, 3) := dk_156 0 16 (dk_at dksX7_most_2 10 rfl rfl)
theorem dX7_most_61 : decode cX7_most 61 = .ok (.new 60, 3) := dk_187 0 60 (dk_at dksX7_most_2 13 rfl rfl)
theorem dX7_most_64 : decode cX7_most 64 = .ok (.dup, 1) := dk_89 (dk_at dksX7_most_2 16 rfl rfl)
theorem dX7_most_65 : decode cX7_most 65 = .ok (.iconst 2, 1) := dk_5 (dk_at dksX7_most_2 17 rfl rfl)
theorem dX7_most_66 : decode cX7_most 66 = .ok (.aload_n 0, 1) := dk_42 (dk_at dksX7_most_2 18 rfl rfl)
theorem dX7_most_67 : decode cX7_most 67 = .ok (.getfield 43, 3) := dk_180 0 43 (dk_at dksX7_most_2 19 rfl rfl)
theorem dX7_most_70 : decode cX7_most 70 = .ok (.invokespecial 62, 3) := dk_183 0 62 (dk_at dksX7_most_3 0 rfl rfl)
theorem dX7_most_73 : decode cX7_most 73 = .ok (.athrow, 1) := dk_191 (dk_at dksX7_most_3 3 rfl rfl)
theorem dX7_most_74 : decode cX7_most 74 = .ok (.aload_n 0, 1) := dk_42 (dk_at dksX7_most_3 4 rfl rfl)
theorem dX7_most_75 : decode cX7_most 75 = .ok (.getfield 15, 3) := dk_180 0 15 (dk_at dksX7_most_3 5 rfl rfl)
theorem dX7_most_78 : decode cX7_most 78 = .ok (.getfield 275, 3) := dk_180 1 19 (dk_at dksX7_most_3 8 rfl rfl)
theorem dX7_most_81 : decode cX7_most 81 = .ok (.iload_n 2, 1) := dk_28 (dk_at dksX7_most_3 11 rfl rfl)
theorem dX7_most_82 : decode cX7_most 82 = .ok (.iaload, 1) := dk_46 (dk_at dksX7_most_3 12 rfl rfl)
theorem dX7_most_83 : decode cX7_most 83 = .ok (.ifCond .lt 17, 3) := dk_155 0 17 (dk_at dksX7_most_3 13 rfl rfl)
theorem dX7_most_86 : decode cX7_most 86 = .ok (.new 60, 3) := dk_187 0 60 (dk_at dksX7_most_3 16 rfl rfl)
theorem dX7_most_89 : decode cX7_most 89 = .ok (.dup, 1) := dk_89 (dk_at dksX7_most_3 19 rfl rfl)
theorem dX7_most_90 : decode cX7_most 90 = .ok (.bipush 6, 2) := dk_16 6 (dk_at dksX7_most_3 20 rfl rfl)
theorem dX7_most_92 : decode cX7_most 92 = .ok (.aload_n 0, 1) := dk_42 (dk_at dksX7_most_3 22 rfl rfl)
theorem dX7_most_93 : decode cX7_most 93 = .ok (.getfield 43, 3) := dk_180 0 43 (dk_at dksX7_most_4 0 rfl rfl)
theorem dX7_most_96 : decode cX7_most 96 = .ok (.invokespecial 62, 3) := dk_183 0 62 (dk_at dksX7_most_4 3 rfl rfl)
theorem dX7_most_99 : decode cX7_most 99 = .ok (.athrow, 1) := dk_191 (dk_at dksX7_most_4 6 rfl rfl)
theorem dX7_most_100 : decode cX7_most 100 = .ok (.aload_n 0, 1) := dk_42 (dk_at dksX7_most_4 7 rfl rfl)
theorem dX7_most_101 : decode cX7_most 101 = .ok (.invokevirtual 23, 3) := dk_182 0 23 (dk_at dksX7_most_4 8 rfl rfl)
theorem dX7_most_104 : decode cX7_most 104 = .ok (.aload_n 0, 1) := dk_42 (dk_at dksX7_most_4 11 rfl rfl)
theorem dX7_most_105 : decode cX7_most 105 = .ok (.bipush 59, 2) := dk_16 59 (dk_at dksX7_most_4 12 rfl rfl)
theorem dX7_most_107 : decode cX7_most 107 = .ok (.invokevirtual 136, 3) := dk_182 0 136 (dk_at dksX7_most_4 14 rfl rfl)
theorem dX7_most_110 : decode cX7_most 110 = .ok (.aload_n 0, 1) := dk_42 (dk_at dksX7_most_4 17 rfl rfl)
theorem dX7_most_111 : decode cX7_most 111 = .ok (.getfield 15, 3) := dk_180 0 15 (dk_at dksX7_most_4 18 rfl rfl)
theorem dX7_most_114 : decode cX7_most 114 = .ok (.getfield 275, 3) := dk_180 1 19 (dk_at dksX7_most_4 21 rfl rfl)
theorem dX7_most_117 : decode cX7_most 117 = .ok (.iload_n 2, 1) := dk_28 (dk_at dksX7_most_5 0 rfl rfl)
theorem dX7_most_118 : decode cX7_most 118 = .ok (.iload_n 1, 1) := dk_27 (dk_at dksX7_most_5 1 rfl rfl)
theorem dX7_most_119 : decode cX7_most 119 = .ok (.iastore, 1) := dk_79 (dk_at dksX7_most_5 2 rfl rfl)
theorem dX7_most_120 : decode cX7_most 120 = .ok (.return_, 1) := dk_177 (dk_at dksX7_most_5 3 rfl rfl)
abbrev cX7_priceKind : ByteArray := prog_18_method_28_code
def yX7_priceKind : MethodName := ⟨RX7, "priceKind", "()I"⟩
def dkwX7_priceKind_3 : List UInt8 := [2, 172]
abbrev dktX7_priceKind_3 : List UInt8 := dkwX7_priceKind_3 ++ []
def dkwX7_priceKind_2 : List UInt8 := [182, 0, 99, 153, 0, 7, 6, 167, 0, 18, 42, 20, 1, 31, 182, 0, 99, 153, 0, 7, 7, 167, 0, 4]
abbrev dktX7_priceKind_2 : List UInt8 := dkwX7_priceKind_2 ++ dktX7_priceKind_3
def dkwX7_priceKind_1 : List UInt8 := [4, 167, 0, 46, 42, 20, 1, 27, 182, 0, 99, 153, 0, 7, 5, 167, 0, 32, 42, 20, 1, 29]
abbrev dktX7_priceKind_1 : List UInt8 := dkwX7_priceKind_1 ++ dktX7_priceKind_2
def dkwX7_priceKind_0 : List UInt8 := [42, 20, 1, 23, 182, 0, 99, 153, 0, 7, 3, 167, 0, 60, 42, 20, 1, 25, 182, 0, 99, 153, 0, 7]
abbrev dktX7_priceKind_0 : List UInt8 := dkwX7_priceKind_0 ++ dktX7_priceKind_1
theorem dksX7_priceKind_0 : cX7_priceKind.data.toList.drop 0 = dktX7_priceKind_0 := by decide +kernel
theorem dksX7_priceKind_1 : cX7_priceKind.data.toList.drop 24 = dktX7_priceKind_1 := dk_seg dksX7_priceKind_0 24 rfl rfl
theorem dksX7_priceKind_2 : cX7_priceKind.data.toList.drop 46 = dktX7_priceKind_2 := dk_seg dksX7_priceKind_1 22 rfl rfl
theorem dksX7_priceKind_3 : cX7_priceKind.data.toList.drop 70 = dktX7_priceKind_3 := dk_seg dksX7_priceKind_2 24 rfl rfl
theorem dX7_priceKind_0 : decode cX7_priceKind 0 = .ok (.aload_n 0, 1) := dk_42 (dk_at dksX7_priceKind_0 0 rfl rfl)
theorem dX7_priceKind_1 : decode cX7_priceKind 1 = .ok (.ldc2_w 279, 3) := dk_20 1 23 (dk_at dksX7_priceKind_0 1 rfl rfl)
theorem dX7_priceKind_4 : decode cX7_priceKind 4 = .ok (.invokevirtual 99, 3) := dk_182 0 99 (dk_at dksX7_priceKind_0 4 rfl rfl)
theorem dX7_priceKind_7 : decode cX7_priceKind 7 = .ok (.ifCond .eq 7, 3) := dk_153 0 7 (dk_at dksX7_priceKind_0 7 rfl rfl)
theorem dX7_priceKind_10 : decode cX7_priceKind 10 = .ok (.iconst 0, 1) := dk_3 (dk_at dksX7_priceKind_0 10 rfl rfl)
theorem dX7_priceKind_11 : decode cX7_priceKind 11 = .ok (.goto 60, 3) := dk_167 0 60 (dk_at dksX7_priceKind_0 11 rfl rfl)
theorem dX7_priceKind_14 : decode cX7_priceKind 14 = .ok (.aload_n 0, 1) := dk_42 (dk_at dksX7_priceKind_0 14 rfl rfl)
theorem dX7_priceKind_15 : decode cX7_priceKind 15 = .ok (.ldc2_w 281, 3) := dk_20 1 25 (dk_at dksX7_priceKind_0 15 rfl rfl)
theorem dX7_priceKind_18 : decode cX7_priceKind 18 = .ok (.invokevirtual 99, 3) := dk_182 0 99 (dk_at dksX7_priceKind_0 18 rfl rfl)
theorem dX7_priceKind_21 : decode cX7_priceKind 21 = .ok (.ifCond .eq 7, 3) := dk_153 0 7 (dk_at dksX7_priceKind_0 21 rfl rfl)
theorem dX7_priceKind_24 : decode cX7_priceKind 24 = .ok (.iconst 1, 1) := dk_4 (dk_at dksX7_priceKind_1 0 rfl rfl)
theorem dX7_priceKind_25 : decode cX7_priceKind 25 = .ok (.goto 46, 3) := dk_167 0 46 (dk_at dksX7_priceKind_1 1 rfl rfl)
theorem dX7_priceKind_28 : decode cX7_priceKind 28 = .ok (.aload_n 0, 1) := dk_42 (dk_at dksX7_priceKind_1 4 rfl rfl)
theorem dX7_priceKind_29 : decode cX7_priceKind 29 = .ok (.ldc2_w 283, 3) := dk_20 1 27 (dk_at dksX7_priceKind_1 5 rfl rfl)
theorem dX7_priceKind_32 : decode cX7_priceKind 32 = .ok (.invokevirtual 99, 3) := dk_182 0 99 (dk_at dksX7_priceKind_1 8 rfl rfl)
theorem dX7_priceKind_35 : decode cX7_priceKind 35 = .ok (.ifCond .eq 7, 3) := dk_153 0 7 (dk_at dksX7_priceKind_1 11 rfl rfl)
theorem dX7_priceKind_38 : decode cX7_priceKind 38 = .ok (.iconst 2, 1) := dk_5 (dk_at dksX7_priceKind_1 14 rfl rfl)
theorem dX7_priceKind_39 : decode cX7_priceKind 39 = .ok (.goto 32, 3) := dk_167 0 32 (dk_at dksX7_priceKind_1 15 rfl rfl)
theorem dX7_priceKind_42 : decode cX7_priceKind 42 = .ok (.aload_n 0, 1) := dk_42 (dk_at dksX7_priceKind_1 18 rfl rfl)
theorem dX7_priceKind_43 : decode cX7_priceKind 43 = .ok (.ldc2_w 285, 3) := dk_20 1 29 (dk_at dksX7_priceKind_1 19 rfl rfl)
theorem dX7_priceKind_46 : decode cX7_priceKind 46 = .ok (.invokevirtual 99, 3) := dk_182 0 99 (dk_at dksX7_priceKind_2 0 rfl rfl)
theorem dX7_priceKind_49 : decode cX7_priceKind 49 = .ok (.ifCond .eq 7, 3) := dk_153 0 7 (dk_at dksX7_priceKind_2 3 rfl rfl)
theorem dX7_priceKind_52 : decode cX7_priceKind 52 = .ok (.iconst 3, 1) := dk_6 (dk_at dksX7_priceKind_2 6 rfl rfl)
theorem dX7_priceKind_53 : decode cX7_priceKind 53 = .ok (.goto 18, 3) := dk_167 0 18 (dk_at dksX7_priceKind_2 7 rfl rfl)
theorem dX7_priceKind_56 : decode cX7_priceKind 56 = .ok (.aload_n 0, 1) := dk_42 (dk_at dksX7_priceKind_2 10 rfl rfl)
theorem dX7_priceKind_57 : decode cX7_priceKind 57 = .ok (.ldc2_w 287, 3) := dk_20 1 31 (dk_at dksX7_priceKind_2 11 rfl rfl)
theorem dX7_priceKind_60 : decode cX7_priceKind 60 = .ok (.invokevirtual 99, 3) := dk_182 0 99 (dk_at dksX7_priceKind_2 14 rfl rfl)
theorem dX7_priceKind_63 : decode cX7_priceKind 63 = .ok (.ifCond .eq 7, 3) := dk_153 0 7 (dk_at dksX7_priceKind_2 17 rfl rfl)
theorem dX7_priceKind_66 : decode cX7_priceKind 66 = .ok (.iconst 4, 1) := dk_7 (dk_at dksX7_priceKind_2 20 rfl rfl)
theorem dX7_priceKind_67 : decode cX7_priceKind 67 = .ok (.goto 4, 3) := dk_167 0 4 (dk_at dksX7_priceKind_2 21 rfl rfl)
theorem dX7_priceKind_70 : decode cX7_priceKind 70 = .ok (.iconst (-1), 1) := dk_2 (dk_at dksX7_priceKind_3 0 rfl rfl)
theorem dX7_priceKind_71 : decode cX7_priceKind 71 = .ok (.ireturn, 1) := dk_172 (dk_at dksX7_priceKind_3 1 rfl rfl)
abbrev cX7_priceRow : ByteArray := prog_18_method_29_code
def yX7_priceRow : MethodName := ⟨RX7, "priceRow", "(I)V"⟩
def dkwX7_priceRow_7 : List UInt8 := [45, 183, 1, 45, 185, 0, 111, 2, 0, 87, 177]
abbrev dktX7_priceRow_7 : List UInt8 := dkwX7_priceRow_7 ++ []
def dkwX7_priceRow_6 : List UInt8 := [100, 96, 181, 1, 0, 42, 16, 59, 182, 0, 136, 42, 180, 0, 15, 180, 1, 33, 187, 1, 43, 89, 27, 28]
abbrev dktX7_priceRow_6 : List UInt8 := dkwX7_priceRow_6 ++ dktX7_priceRow_7
def dkwX7_priceRow_5 : List UInt8 := [180, 0, 84, 54, 4, 42, 182, 0, 133, 78, 42, 180, 0, 15, 89, 180, 1, 0, 42, 180, 0, 84, 21, 4]
abbrev dktX7_priceRow_5 : List UInt8 := dkwX7_priceRow_5 ++ dktX7_priceRow_6
def dkwX7_priceRow_4 : List UInt8 := [4, 159, 0, 8, 27, 5, 160, 0, 47, 42, 20, 1, 41, 182, 0, 99, 153, 0, 37, 42, 182, 0, 23, 42]
abbrev dktX7_priceRow_4 : List UInt8 := dkwX7_priceRow_4 ++ dktX7_priceRow_5
def dkwX7_priceRow_3 : List UInt8 := [167, 0, 17, 27, 6, 160, 0, 9, 19, 1, 39, 167, 0, 6, 19, 1, 40, 182, 0, 186, 61, 1, 78, 27]
abbrev dktX7_priceRow_3 : List UInt8 := dkwX7_priceRow_3 ++ dktX7_priceRow_4
def dkwX7_priceRow_2 : List UInt8 := [182, 0, 23, 42, 27, 6, 160, 0, 7, 4, 167, 0, 4, 3, 27, 4, 160, 0, 9, 17, 11, 184]
abbrev dktX7_priceRow_2 : List UInt8 := dkwX7_priceRow_2 ++ dktX7_priceRow_3
def dkwX7_priceRow_1 : List UInt8 := [182, 1, 36, 6, 160, 0, 17, 187, 0, 60, 89, 16, 6, 42, 180, 0, 43, 183, 0, 62, 191, 42]
abbrev dktX7_priceRow_1 : List UInt8 := dkwX7_priceRow_1 ++ dktX7_priceRow_2
def dkwX7_priceRow_0 : List UInt8 := [42, 180, 0, 15, 180, 1, 33, 185, 0, 223, 1, 0, 16, 24, 159, 0, 16, 27, 4, 160, 0, 25, 42]
abbrev dktX7_priceRow_0 : List UInt8 := dkwX7_priceRow_0 ++ dktX7_priceRow_1
theorem dksX7_priceRow_0 : cX7_priceRow.data.toList.drop 0 = dktX7_priceRow_0 := by decide +kernel
theorem dksX7_priceRow_1 : cX7_priceRow.data.toList.drop 23 = dktX7_priceRow_1 := dk_seg dksX7_priceRow_0 23 rfl rfl
theorem dksX7_priceRow_2 : cX7_priceRow.data.toList.drop 45 = dktX7_priceRow_2 := dk_seg dksX7_priceRow_1 22 rfl rfl
theorem dksX7_priceRow_3 : cX7_priceRow.data.toList.drop 67 = dktX7_priceRow_3 := dk_seg dksX7_priceRow_2 22 rfl rfl
theorem dksX7_priceRow_4 : cX7_priceRow.data.toList.drop 91 = dktX7_priceRow_4 := dk_seg dksX7_priceRow_3 24 rfl rfl
theorem dksX7_priceRow_5 : cX7_priceRow.data.toList.drop 115 = dktX7_priceRow_5 := dk_seg dksX7_priceRow_4 24 rfl rfl
theorem dksX7_priceRow_6 : cX7_priceRow.data.toList.drop 139 = dktX7_priceRow_6 := dk_seg dksX7_priceRow_5 24 rfl rfl
theorem dksX7_priceRow_7 : cX7_priceRow.data.toList.drop 163 = dktX7_priceRow_7 := dk_seg dksX7_priceRow_6 24 rfl rfl
theorem dX7_priceRow_0 : decode cX7_priceRow 0 = .ok (.aload_n 0, 1) := dk_42 (dk_at dksX7_priceRow_0 0 rfl rfl)
theorem dX7_priceRow_1 : decode cX7_priceRow 1 = .ok (.getfield 15, 3) := dk_180 0 15 (dk_at dksX7_priceRow_0 1 rfl rfl)
theorem dX7_priceRow_4 : decode cX7_priceRow 4 = .ok (.getfield 289, 3) := dk_180 1 33 (dk_at dksX7_priceRow_0 4 rfl rfl)
theorem dX7_priceRow_7 : decode cX7_priceRow 7 = .ok (.invokeinterface 223 1, 5) := by decide +kernel
theorem dX7_priceRow_12 : decode cX7_priceRow 12 = .ok (.bipush 24, 2) := dk_16 24 (dk_at dksX7_priceRow_0 12 rfl rfl)
theorem dX7_priceRow_14 : decode cX7_priceRow 14 = .ok (.if_icmp .eq 16, 3) := dk_159 0 16 (dk_at dksX7_priceRow_0 14 rfl rfl)
theorem dX7_priceRow_17 : decode cX7_priceRow 17 = .ok (.iload_n 1, 1) := dk_27 (dk_at dksX7_priceRow_0 17 rfl rfl)
theorem dX7_priceRow_18 : decode cX7_priceRow 18 = .ok (.iconst 1, 1) := dk_4 (dk_at dksX7_priceRow_0 18 rfl rfl)
theorem dX7_priceRow_19 : decode cX7_priceRow 19 = .ok (.if_icmp .ne 25, 3) := dk_160 0 25 (dk_at dksX7_priceRow_0 19 rfl rfl)
theorem dX7_priceRow_22 : decode cX7_priceRow 22 = .ok (.aload_n 0, 1) := dk_42 (dk_at dksX7_priceRow_0 22 rfl rfl)
theorem dX7_priceRow_23 : decode cX7_priceRow 23 = .ok (.invokevirtual 292, 3) := dk_182 1 36 (dk_at dksX7_priceRow_1 0 rfl rfl)
theorem dX7_priceRow_26 : decode cX7_priceRow 26 = .ok (.iconst 3, 1) := dk_6 (dk_at dksX7_priceRow_1 3 rfl rfl)
theorem dX7_priceRow_27 : decode cX7_priceRow 27 = .ok (.if_icmp .ne 17, 3) := dk_160 0 17 (dk_at dksX7_priceRow_1 4 rfl rfl)
theorem dX7_priceRow_30 : decode cX7_priceRow 30 = .ok (.new 60, 3) := dk_187 0 60 (dk_at dksX7_priceRow_1 7 rfl rfl)
theorem dX7_priceRow_33 : decode cX7_priceRow 33 = .ok (.dup, 1) := dk_89 (dk_at dksX7_priceRow_1 10 rfl rfl)
theorem dX7_priceRow_34 : decode cX7_priceRow 34 = .ok (.bipush 6, 2) := dk_16 6 (dk_at dksX7_priceRow_1 11 rfl rfl)
theorem dX7_priceRow_36 : decode cX7_priceRow 36 = .ok (.aload_n 0, 1) := dk_42 (dk_at dksX7_priceRow_1 13 rfl rfl)
theorem dX7_priceRow_37 : decode cX7_priceRow 37 = .ok (.getfield 43, 3) := dk_180 0 43 (dk_at dksX7_priceRow_1 14 rfl rfl)
theorem dX7_priceRow_40 : decode cX7_priceRow 40 = .ok (.invokespecial 62, 3) := dk_183 0 62 (dk_at dksX7_priceRow_1 17 rfl rfl)
theorem dX7_priceRow_43 : decode cX7_priceRow 43 = .ok (.athrow, 1) := dk_191 (dk_at dksX7_priceRow_1 20 rfl rfl)
theorem dX7_priceRow_44 : decode cX7_priceRow 44 = .ok (.aload_n 0, 1) := dk_42 (dk_at dksX7_priceRow_1 21 rfl rfl)
theorem dX7_priceRow_45 : decode cX7_priceRow 45 = .ok (.invokevirtual 23, 3) := dk_182 0 23 (dk_at dksX7_priceRow_2 0 rfl rfl)
theorem dX7_priceRow_48 : decode cX7_priceRow 48 = .ok (.aload_n 0, 1) := dk_42 (dk_at dksX7_priceRow_2 3 rfl rfl)
theorem dX7_priceRow_49 : decode cX7_priceRow 49 = .ok (.iload_n 1, 1) := dk_27 (dk_at dksX7_priceRow_2 4 rfl rfl)
theorem dX7_priceRow_50 : decode cX7_priceRow 50 = .ok (.iconst 3, 1) := dk_6 (dk_at dksX7_priceRow_2 5 rfl rfl)
theorem dX7_priceRow_51 : decode cX7_priceRow 51 = .ok (.if_icmp .ne 7, 3) := dk_160 0 7 (dk_at dksX7_priceRow_2 6 rfl rfl)
theorem dX7_priceRow_54 : decode cX7_priceRow 54 = .ok (.iconst 1, 1) := dk_4 (dk_at dksX7_priceRow_2 9 rfl rfl)
theorem dX7_priceRow_55 : decode cX7_priceRow 55 = .ok (.goto 4, 3) := dk_167 0 4 (dk_at dksX7_priceRow_2 10 rfl rfl)
theorem dX7_priceRow_58 : decode cX7_priceRow 58 = .ok (.iconst 0, 1) := dk_3 (dk_at dksX7_priceRow_2 13 rfl rfl)
theorem dX7_priceRow_59 : decode cX7_priceRow 59 = .ok (.iload_n 1, 1) := dk_27 (dk_at dksX7_priceRow_2 14 rfl rfl)
theorem dX7_priceRow_60 : decode cX7_priceRow 60 = .ok (.iconst 1, 1) := dk_4 (dk_at dksX7_priceRow_2 15 rfl rfl)
theorem dX7_priceRow_61 : decode cX7_priceRow 61 = .ok (.if_icmp .ne 9, 3) := dk_160 0 9 (dk_at dksX7_priceRow_2 16 rfl rfl)
theorem dX7_priceRow_64 : decode cX7_priceRow 64 = .ok (.sipush 3000, 3) := dk_17 11 184 (dk_at dksX7_priceRow_2 19 rfl rfl)
theorem dX7_priceRow_67 : decode cX7_priceRow 67 = .ok (.goto 17, 3) := dk_167 0 17 (dk_at dksX7_priceRow_3 0 rfl rfl)
theorem dX7_priceRow_70 : decode cX7_priceRow 70 = .ok (.iload_n 1, 1) := dk_27 (dk_at dksX7_priceRow_3 3 rfl rfl)
theorem dX7_priceRow_71 : decode cX7_priceRow 71 = .ok (.iconst 3, 1) := dk_6 (dk_at dksX7_priceRow_3 4 rfl rfl)
theorem dX7_priceRow_72 : decode cX7_priceRow 72 = .ok (.if_icmp .ne 9, 3) := dk_160 0 9 (dk_at dksX7_priceRow_3 5 rfl rfl)
theorem dX7_priceRow_75 : decode cX7_priceRow 75 = .ok (.ldc_w 295, 3) := dk_19 1 39 (dk_at dksX7_priceRow_3 8 rfl rfl)
theorem dX7_priceRow_78 : decode cX7_priceRow 78 = .ok (.goto 6, 3) := dk_167 0 6 (dk_at dksX7_priceRow_3 11 rfl rfl)
theorem dX7_priceRow_81 : decode cX7_priceRow 81 = .ok (.ldc_w 296, 3) := dk_19 1 40 (dk_at dksX7_priceRow_3 14 rfl rfl)
theorem dX7_priceRow_84 : decode cX7_priceRow 84 = .ok (.invokevirtual 186, 3) := dk_182 0 186 (dk_at dksX7_priceRow_3 17 rfl rfl)
theorem dX7_priceRow_87 : decode cX7_priceRow 87 = .ok (.istore_n 2, 1) := dk_61 (dk_at dksX7_priceRow_3 20 rfl rfl)
theorem dX7_priceRow_88 : decode cX7_priceRow 88 = .ok (.aconst_null, 1) := dk_1 (dk_at dksX7_priceRow_3 21 rfl rfl)
theorem dX7_priceRow_89 : decode cX7_priceRow 89 = .ok (.astore_n 3, 1) := dk_78 (dk_at dksX7_priceRow_3 22 rfl rfl)
theorem dX7_priceRow_90 : decode cX7_priceRow 90 = .ok (.iload_n 1, 1) := dk_27 (dk_at dksX7_priceRow_3 23 rfl rfl)
theorem dX7_priceRow_91 : decode cX7_priceRow 91 = .ok (.iconst 1, 1) := dk_4 (dk_at dksX7_priceRow_4 0 rfl rfl)
theorem dX7_priceRow_92 : decode cX7_priceRow 92 = .ok (.if_icmp .eq 8, 3) := dk_159 0 8 (dk_at dksX7_priceRow_4 1 rfl rfl)
theorem dX7_priceRow_95 : decode cX7_priceRow 95 = .ok (.iload_n 1, 1) := dk_27 (dk_at dksX7_priceRow_4 4 rfl rfl)
theorem dX7_priceRow_96 : decode cX7_priceRow 96 = .ok (.iconst 2, 1) := dk_5 (dk_at dksX7_priceRow_4 5 rfl rfl)
theorem dX7_priceRow_97 : decode cX7_priceRow 97 = .ok (.if_icmp .ne 47, 3) := dk_160 0 47 (dk_at dksX7_priceRow_4 6 rfl rfl)
theorem dX7_priceRow_100 : decode cX7_priceRow 100 = .ok (.aload_n 0, 1) := dk_42 (dk_at dksX7_priceRow_4 9 rfl rfl)
theorem dX7_priceRow_101 : decode cX7_priceRow 101 = .ok (.ldc2_w 297, 3) := dk_20 1 41 (dk_at dksX7_priceRow_4 10 rfl rfl)
theorem dX7_priceRow_104 : decode cX7_priceRow 104 = .ok (.invokevirtual 99, 3) := dk_182 0 99 (dk_at dksX7_priceRow_4 13 rfl rfl)
theorem dX7_priceRow_107 : decode cX7_priceRow 107 = .ok (.ifCond .eq 37, 3) := dk_153 0 37 (dk_at dksX7_priceRow_4 16 rfl rfl)
theorem dX7_priceRow_110 : decode cX7_priceRow 110 = .ok (.aload_n 0, 1) := dk_42 (dk_at dksX7_priceRow_4 19 rfl rfl)
theorem dX7_priceRow_111 : decode cX7_priceRow 111 = .ok (.invokevirtual 23, 3) := dk_182 0 23 (dk_at dksX7_priceRow_4 20 rfl rfl)
theorem dX7_priceRow_114 : decode cX7_priceRow 114 = .ok (.aload_n 0, 1) := dk_42 (dk_at dksX7_priceRow_4 23 rfl rfl)
theorem dX7_priceRow_115 : decode cX7_priceRow 115 = .ok (.getfield 84, 3) := dk_180 0 84 (dk_at dksX7_priceRow_5 0 rfl rfl)
theorem dX7_priceRow_118 : decode cX7_priceRow 118 = .ok (.istore 4, 2) := dk_54 4 (dk_at dksX7_priceRow_5 3 rfl rfl)
theorem dX7_priceRow_120 : decode cX7_priceRow 120 = .ok (.aload_n 0, 1) := dk_42 (dk_at dksX7_priceRow_5 5 rfl rfl)
theorem dX7_priceRow_121 : decode cX7_priceRow 121 = .ok (.invokevirtual 133, 3) := dk_182 0 133 (dk_at dksX7_priceRow_5 6 rfl rfl)
theorem dX7_priceRow_124 : decode cX7_priceRow 124 = .ok (.astore_n 3, 1) := dk_78 (dk_at dksX7_priceRow_5 9 rfl rfl)
theorem dX7_priceRow_125 : decode cX7_priceRow 125 = .ok (.aload_n 0, 1) := dk_42 (dk_at dksX7_priceRow_5 10 rfl rfl)
theorem dX7_priceRow_126 : decode cX7_priceRow 126 = .ok (.getfield 15, 3) := dk_180 0 15 (dk_at dksX7_priceRow_5 11 rfl rfl)
theorem dX7_priceRow_129 : decode cX7_priceRow 129 = .ok (.dup, 1) := dk_89 (dk_at dksX7_priceRow_5 14 rfl rfl)
theorem dX7_priceRow_130 : decode cX7_priceRow 130 = .ok (.getfield 256, 3) := dk_180 1 0 (dk_at dksX7_priceRow_5 15 rfl rfl)
theorem dX7_priceRow_133 : decode cX7_priceRow 133 = .ok (.aload_n 0, 1) := dk_42 (dk_at dksX7_priceRow_5 18 rfl rfl)
theorem dX7_priceRow_134 : decode cX7_priceRow 134 = .ok (.getfield 84, 3) := dk_180 0 84 (dk_at dksX7_priceRow_5 19 rfl rfl)
theorem dX7_priceRow_137 : decode cX7_priceRow 137 = .ok (.iload 4, 2) := dk_21 4 (dk_at dksX7_priceRow_5 22 rfl rfl)
theorem dX7_priceRow_139 : decode cX7_priceRow 139 = .ok (.isub, 1) := dk_100 (dk_at dksX7_priceRow_6 0 rfl rfl)
theorem dX7_priceRow_140 : decode cX7_priceRow 140 = .ok (.iadd, 1) := dk_96 (dk_at dksX7_priceRow_6 1 rfl rfl)
theorem dX7_priceRow_141 : decode cX7_priceRow 141 = .ok (.putfield 256, 3) := dk_181 1 0 (dk_at dksX7_priceRow_6 2 rfl rfl)
theorem dX7_priceRow_144 : decode cX7_priceRow 144 = .ok (.aload_n 0, 1) := dk_42 (dk_at dksX7_priceRow_6 5 rfl rfl)
theorem dX7_priceRow_145 : decode cX7_priceRow 145 = .ok (.bipush 59, 2) := dk_16 59 (dk_at dksX7_priceRow_6 6 rfl rfl)
theorem dX7_priceRow_147 : decode cX7_priceRow 147 = .ok (.invokevirtual 136, 3) := dk_182 0 136 (dk_at dksX7_priceRow_6 8 rfl rfl)
theorem dX7_priceRow_150 : decode cX7_priceRow 150 = .ok (.aload_n 0, 1) := dk_42 (dk_at dksX7_priceRow_6 11 rfl rfl)
theorem dX7_priceRow_151 : decode cX7_priceRow 151 = .ok (.getfield 15, 3) := dk_180 0 15 (dk_at dksX7_priceRow_6 12 rfl rfl)
theorem dX7_priceRow_154 : decode cX7_priceRow 154 = .ok (.getfield 289, 3) := dk_180 1 33 (dk_at dksX7_priceRow_6 15 rfl rfl)
theorem dX7_priceRow_157 : decode cX7_priceRow 157 = .ok (.new 299, 3) := dk_187 1 43 (dk_at dksX7_priceRow_6 18 rfl rfl)
theorem dX7_priceRow_160 : decode cX7_priceRow 160 = .ok (.dup, 1) := dk_89 (dk_at dksX7_priceRow_6 21 rfl rfl)
theorem dX7_priceRow_161 : decode cX7_priceRow 161 = .ok (.iload_n 1, 1) := dk_27 (dk_at dksX7_priceRow_6 22 rfl rfl)
theorem dX7_priceRow_162 : decode cX7_priceRow 162 = .ok (.iload_n 2, 1) := dk_28 (dk_at dksX7_priceRow_6 23 rfl rfl)
theorem dX7_priceRow_163 : decode cX7_priceRow 163 = .ok (.aload_n 3, 1) := dk_45 (dk_at dksX7_priceRow_7 0 rfl rfl)
theorem dX7_priceRow_164 : decode cX7_priceRow 164 = .ok (.invokespecial 301, 3) := dk_183 1 45 (dk_at dksX7_priceRow_7 1 rfl rfl)
theorem dX7_priceRow_167 : decode cX7_priceRow 167 = .ok (.invokeinterface 111 2, 5) := by decide +kernel
theorem dX7_priceRow_172 : decode cX7_priceRow 172 = .ok (.pop, 1) := dk_87 (dk_at dksX7_priceRow_7 9 rfl rfl)
theorem dX7_priceRow_173 : decode cX7_priceRow 173 = .ok (.return_, 1) := dk_177 (dk_at dksX7_priceRow_7 10 rfl rfl)
abbrev cX7_timesBehind : ByteArray := prog_18_method_30_code
def yX7_timesBehind : MethodName := ⟨RX7, "timesBehind", "()I"⟩
def dkwX7_timesBehind_3 : List UInt8 := [167, 0, 4, 3, 96, 60, 132, 2, 255, 167, 255, 195, 27, 172]
abbrev dktX7_timesBehind_3 : List UInt8 := dkwX7_timesBehind_3 ++ []
def dkwX7_timesBehind_2 : List UInt8 := [180, 0, 15, 180, 1, 33, 28, 185, 0, 158, 2, 0, 192, 1, 43, 180, 1, 48, 4, 160, 0, 7, 4]
abbrev dktX7_timesBehind_2 : List UInt8 := dkwX7_timesBehind_2 ++ dktX7_timesBehind_3
def dkwX7_timesBehind_1 : List UInt8 := [180, 0, 15, 180, 1, 33, 28, 185, 0, 158, 2, 0, 192, 1, 43, 180, 1, 48, 6, 159, 0, 40, 27, 42]
abbrev dktX7_timesBehind_1 : List UInt8 := dkwX7_timesBehind_1 ++ dktX7_timesBehind_2
def dkwX7_timesBehind_0 : List UInt8 := [3, 60, 42, 180, 0, 15, 180, 1, 33, 185, 0, 223, 1, 0, 4, 100, 61, 28, 155, 0, 63, 42]
abbrev dktX7_timesBehind_0 : List UInt8 := dkwX7_timesBehind_0 ++ dktX7_timesBehind_1
theorem dksX7_timesBehind_0 : cX7_timesBehind.data.toList.drop 0 = dktX7_timesBehind_0 := by decide +kernel
theorem dksX7_timesBehind_1 : cX7_timesBehind.data.toList.drop 22 = dktX7_timesBehind_1 := dk_seg dksX7_timesBehind_0 22 rfl rfl
theorem dksX7_timesBehind_2 : cX7_timesBehind.data.toList.drop 46 = dktX7_timesBehind_2 := dk_seg dksX7_timesBehind_1 24 rfl rfl
theorem dksX7_timesBehind_3 : cX7_timesBehind.data.toList.drop 69 = dktX7_timesBehind_3 := dk_seg dksX7_timesBehind_2 23 rfl rfl
theorem dX7_timesBehind_0 : decode cX7_timesBehind 0 = .ok (.iconst 0, 1) := dk_3 (dk_at dksX7_timesBehind_0 0 rfl rfl)
theorem dX7_timesBehind_1 : decode cX7_timesBehind 1 = .ok (.istore_n 1, 1) := dk_60 (dk_at dksX7_timesBehind_0 1 rfl rfl)
theorem dX7_timesBehind_2 : decode cX7_timesBehind 2 = .ok (.aload_n 0, 1) := dk_42 (dk_at dksX7_timesBehind_0 2 rfl rfl)
theorem dX7_timesBehind_3 : decode cX7_timesBehind 3 = .ok (.getfield 15, 3) := dk_180 0 15 (dk_at dksX7_timesBehind_0 3 rfl rfl)
theorem dX7_timesBehind_6 : decode cX7_timesBehind 6 = .ok (.getfield 289, 3) := dk_180 1 33 (dk_at dksX7_timesBehind_0 6 rfl rfl)
theorem dX7_timesBehind_9 : decode cX7_timesBehind 9 = .ok (.invokeinterface 223 1, 5) := by decide +kernel
theorem dX7_timesBehind_14 : decode cX7_timesBehind 14 = .ok (.iconst 1, 1) := dk_4 (dk_at dksX7_timesBehind_0 14 rfl rfl)
theorem dX7_timesBehind_15 : decode cX7_timesBehind 15 = .ok (.isub, 1) := dk_100 (dk_at dksX7_timesBehind_0 15 rfl rfl)
theorem dX7_timesBehind_16 : decode cX7_timesBehind 16 = .ok (.istore_n 2, 1) := dk_61 (dk_at dksX7_timesBehind_0 16 rfl rfl)
theorem dX7_timesBehind_17 : decode cX7_timesBehind 17 = .ok (.iload_n 2, 1) := dk_28 (dk_at dksX7_timesBehind_0 17 rfl rfl)
theorem dX7_timesBehind_18 : decode cX7_timesBehind 18 = .ok (.ifCond .lt 63, 3) := dk_155 0 63 (dk_at dksX7_timesBehind_0 18 rfl rfl)
theorem dX7_timesBehind_21 : decode cX7_timesBehind 21 = .ok (.aload_n 0, 1) := dk_42 (dk_at dksX7_timesBehind_0 21 rfl rfl)
theorem dX7_timesBehind_22 : decode cX7_timesBehind 22 = .ok (.getfield 15, 3) := dk_180 0 15 (dk_at dksX7_timesBehind_1 0 rfl rfl)
theorem dX7_timesBehind_25 : decode cX7_timesBehind 25 = .ok (.getfield 289, 3) := dk_180 1 33 (dk_at dksX7_timesBehind_1 3 rfl rfl)
theorem dX7_timesBehind_28 : decode cX7_timesBehind 28 = .ok (.iload_n 2, 1) := dk_28 (dk_at dksX7_timesBehind_1 6 rfl rfl)
theorem dX7_timesBehind_29 : decode cX7_timesBehind 29 = .ok (.invokeinterface 158 2, 5) := by decide +kernel
theorem dX7_timesBehind_34 : decode cX7_timesBehind 34 = .ok (.checkcast 299, 3) := dk_192 1 43 (dk_at dksX7_timesBehind_1 12 rfl rfl)
theorem dX7_timesBehind_37 : decode cX7_timesBehind 37 = .ok (.getfield 304, 3) := dk_180 1 48 (dk_at dksX7_timesBehind_1 15 rfl rfl)
theorem dX7_timesBehind_40 : decode cX7_timesBehind 40 = .ok (.iconst 3, 1) := dk_6 (dk_at dksX7_timesBehind_1 18 rfl rfl)
theorem dX7_timesBehind_41 : decode cX7_timesBehind 41 = .ok (.if_icmp .eq 40, 3) := dk_159 0 40 (dk_at dksX7_timesBehind_1 19 rfl rfl)
theorem dX7_timesBehind_44 : decode cX7_timesBehind 44 = .ok (.iload_n 1, 1) := dk_27 (dk_at dksX7_timesBehind_1 22 rfl rfl)
theorem dX7_timesBehind_45 : decode cX7_timesBehind 45 = .ok (.aload_n 0, 1) := dk_42 (dk_at dksX7_timesBehind_1 23 rfl rfl)
theorem dX7_timesBehind_46 : decode cX7_timesBehind 46 = .ok (.getfield 15, 3) := dk_180 0 15 (dk_at dksX7_timesBehind_2 0 rfl rfl)
theorem dX7_timesBehind_49 : decode cX7_timesBehind 49 = .ok (.getfield 289, 3) := dk_180 1 33 (dk_at dksX7_timesBehind_2 3 rfl rfl)
theorem dX7_timesBehind_52 : decode cX7_timesBehind 52 = .ok (.iload_n 2, 1) := dk_28 (dk_at dksX7_timesBehind_2 6 rfl rfl)
theorem dX7_timesBehind_53 : decode cX7_timesBehind 53 = .ok (.invokeinterface 158 2, 5) := by decide +kernel
theorem dX7_timesBehind_58 : decode cX7_timesBehind 58 = .ok (.checkcast 299, 3) := dk_192 1 43 (dk_at dksX7_timesBehind_2 12 rfl rfl)
theorem dX7_timesBehind_61 : decode cX7_timesBehind 61 = .ok (.getfield 304, 3) := dk_180 1 48 (dk_at dksX7_timesBehind_2 15 rfl rfl)
theorem dX7_timesBehind_64 : decode cX7_timesBehind 64 = .ok (.iconst 1, 1) := dk_4 (dk_at dksX7_timesBehind_2 18 rfl rfl)
theorem dX7_timesBehind_65 : decode cX7_timesBehind 65 = .ok (.if_icmp .ne 7, 3) := dk_160 0 7 (dk_at dksX7_timesBehind_2 19 rfl rfl)
theorem dX7_timesBehind_68 : decode cX7_timesBehind 68 = .ok (.iconst 1, 1) := dk_4 (dk_at dksX7_timesBehind_2 22 rfl rfl)
theorem dX7_timesBehind_69 : decode cX7_timesBehind 69 = .ok (.goto 4, 3) := dk_167 0 4 (dk_at dksX7_timesBehind_3 0 rfl rfl)
theorem dX7_timesBehind_72 : decode cX7_timesBehind 72 = .ok (.iconst 0, 1) := dk_3 (dk_at dksX7_timesBehind_3 3 rfl rfl)
theorem dX7_timesBehind_73 : decode cX7_timesBehind 73 = .ok (.iadd, 1) := dk_96 (dk_at dksX7_timesBehind_3 4 rfl rfl)
theorem dX7_timesBehind_74 : decode cX7_timesBehind 74 = .ok (.istore_n 1, 1) := dk_60 (dk_at dksX7_timesBehind_3 5 rfl rfl)
theorem dX7_timesBehind_75 : decode cX7_timesBehind 75 = .ok (.iinc 2 (-1), 3) := dk_132 2 255 (dk_at dksX7_timesBehind_3 6 rfl rfl)
theorem dX7_timesBehind_78 : decode cX7_timesBehind 78 = .ok (.goto (-61), 3) := dk_167 255 195 (dk_at dksX7_timesBehind_3 9 rfl rfl)
theorem dX7_timesBehind_81 : decode cX7_timesBehind 81 = .ok (.iload_n 1, 1) := dk_27 (dk_at dksX7_timesBehind_3 12 rfl rfl)
theorem dX7_timesBehind_82 : decode cX7_timesBehind 82 = .ok (.ireturn, 1) := dk_172 (dk_at dksX7_timesBehind_3 13 rfl rfl)
abbrev cX7_endorsement : ByteArray := prog_18_method_33_code
def yX7_endorsement : MethodName := ⟨RX7, "endorsement", "(LCoverHouse$Wording;)V"⟩
def dkwX7_endorsement_14 : List UInt8 := [42, 180, 0, 3, 180, 0, 26, 183, 0, 62, 191, 177]
abbrev dktX7_endorsement_14 : List UInt8 := dkwX7_endorsement_14 ++ []
def dkwX7_endorsement_13 : List UInt8 := [16, 24, 163, 0, 16, 42, 180, 0, 15, 182, 1, 112, 17, 1, 44, 164, 0, 20, 187, 0, 60, 89, 16, 6]
abbrev dktX7_endorsement_13 : List UInt8 := dkwX7_endorsement_13 ++ dktX7_endorsement_14
def dkwX7_endorsement_12 : List UInt8 := [180, 1, 61, 25, 4, 185, 1, 108, 2, 0, 87, 42, 180, 0, 15, 180, 1, 61, 185, 0, 223, 1, 0]
abbrev dktX7_endorsement_12 : List UInt8 := dkwX7_endorsement_12 ++ dktX7_endorsement_13
def dkwX7_endorsement_11 : List UInt8 := [185, 0, 158, 2, 0, 192, 0, 214, 185, 0, 111, 2, 0, 87, 132, 5, 1, 167, 255, 207, 42, 180, 0, 15]
abbrev dktX7_endorsement_11 : List UInt8 := dkwX7_endorsement_11 ++ dktX7_endorsement_12
def dkwX7_endorsement_10 : List UInt8 := [44, 21, 5, 185, 0, 158, 2, 0, 198, 0, 27, 42, 180, 0, 15, 180, 1, 61, 44, 21, 5]
abbrev dktX7_endorsement_10 : List UInt8 := dkwX7_endorsement_10 ++ dktX7_endorsement_11
def dkwX7_endorsement_9 : List UInt8 := [180, 0, 43, 183, 0, 62, 191, 167, 255, 69, 3, 54, 5, 21, 5, 44, 185, 0, 223, 1, 0, 162, 0, 44]
abbrev dktX7_endorsement_9 : List UInt8 := dkwX7_endorsement_9 ++ dktX7_endorsement_10
def dkwX7_endorsement_8 : List UInt8 := [167, 0, 7, 42, 182, 1, 64, 185, 1, 104, 3, 0, 87, 167, 0, 16, 187, 0, 60, 89, 5, 42]
abbrev dktX7_endorsement_8 : List UInt8 := dkwX7_endorsement_8 ++ dktX7_endorsement_9
def dkwX7_endorsement_7 : List UInt8 := [187, 0, 60, 89, 5, 42, 180, 0, 43, 183, 0, 62, 191, 44, 21, 6, 21, 5, 153, 0, 7, 1]
abbrev dktX7_endorsement_7 : List UInt8 := dkwX7_endorsement_7 ++ dktX7_endorsement_8
def dkwX7_endorsement_6 : List UInt8 := [182, 0, 23, 21, 5, 153, 0, 12, 42, 16, 59, 182, 0, 136, 167, 0, 23, 42, 182, 1, 57, 154, 0, 16]
abbrev dktX7_endorsement_6 : List UInt8 := dkwX7_endorsement_6 ++ dktX7_endorsement_7
def dkwX7_endorsement_5 : List UInt8 := [153, 0, 16, 187, 0, 60, 89, 8, 42, 180, 0, 43, 183, 0, 62, 191, 45, 21, 6, 4, 84, 42]
abbrev dktX7_endorsement_5 : List UInt8 := dkwX7_endorsement_5 ++ dktX7_endorsement_6
def dkwX7_endorsement_4 : List UInt8 := [54, 6, 21, 6, 155, 0, 21, 21, 6, 44, 185, 0, 223, 1, 0, 162, 0, 10, 45, 21, 6, 51]
abbrev dktX7_endorsement_4 : List UInt8 := dkwX7_endorsement_4 ++ dktX7_endorsement_5
def dkwX7_endorsement_3 : List UInt8 := [20, 1, 102, 182, 0, 99, 153, 0, 124, 42, 182, 0, 23, 42, 5, 182, 0, 81, 42, 180, 0, 69, 4, 100]
abbrev dktX7_endorsement_3 : List UInt8 := dkwX7_endorsement_3 ++ dktX7_endorsement_4
def dkwX7_endorsement_2 : List UInt8 := [153, 0, 18, 25, 4, 42, 182, 1, 64, 185, 0, 111, 2, 0, 87, 167, 0, 152, 21, 5, 154, 0, 13, 42]
abbrev dktX7_endorsement_2 : List UInt8 := dkwX7_endorsement_2 ++ dktX7_endorsement_3
def dkwX7_endorsement_1 : List UInt8 := [58, 4, 42, 180, 0, 46, 153, 0, 186, 42, 20, 1, 100, 182, 0, 99, 54, 5, 42, 182, 1, 57]
abbrev dktX7_endorsement_1 : List UInt8 := dkwX7_endorsement_1 ++ dktX7_endorsement_2
def dkwX7_endorsement_0 : List UInt8 := [187, 1, 94, 89, 43, 180, 1, 61, 183, 1, 96, 77, 16, 24, 188, 4, 78, 187, 1, 94, 89, 183, 1, 99]
abbrev dktX7_endorsement_0 : List UInt8 := dkwX7_endorsement_0 ++ dktX7_endorsement_1
theorem dksX7_endorsement_0 : cX7_endorsement.data.toList.drop 0 = dktX7_endorsement_0 := by decide +kernel
theorem dksX7_endorsement_1 : cX7_endorsement.data.toList.drop 24 = dktX7_endorsement_1 := dk_seg dksX7_endorsement_0 24 rfl rfl
theorem dksX7_endorsement_2 : cX7_endorsement.data.toList.drop 46 = dktX7_endorsement_2 := dk_seg dksX7_endorsement_1 22 rfl rfl
theorem dksX7_endorsement_3 : cX7_endorsement.data.toList.drop 70 = dktX7_endorsement_3 := dk_seg dksX7_endorsement_2 24 rfl rfl
theorem dksX7_endorsement_4 : cX7_endorsement.data.toList.drop 94 = dktX7_endorsement_4 := dk_seg dksX7_endorsement_3 24 rfl rfl
theorem dksX7_endorsement_5 : cX7_endorsement.data.toList.drop 116 = dktX7_endorsement_5 := dk_seg dksX7_endorsement_4 22 rfl rfl
theorem dksX7_endorsement_6 : cX7_endorsement.data.toList.drop 138 = dktX7_endorsement_6 := dk_seg dksX7_endorsement_5 22 rfl rfl
theorem dksX7_endorsement_7 : cX7_endorsement.data.toList.drop 162 = dktX7_endorsement_7 := dk_seg dksX7_endorsement_6 24 rfl rfl
theorem dksX7_endorsement_8 : cX7_endorsement.data.toList.drop 184 = dktX7_endorsement_8 := dk_seg dksX7_endorsement_7 22 rfl rfl
theorem dksX7_endorsement_9 : cX7_endorsement.data.toList.drop 206 = dktX7_endorsement_9 := dk_seg dksX7_endorsement_8 22 rfl rfl
theorem dksX7_endorsement_10 : cX7_endorsement.data.toList.drop 230 = dktX7_endorsement_10 := dk_seg dksX7_endorsement_9 24 rfl rfl
theorem dksX7_endorsement_11 : cX7_endorsement.data.toList.drop 251 = dktX7_endorsement_11 := dk_seg dksX7_endorsement_10 21 rfl rfl
theorem dksX7_endorsement_12 : cX7_endorsement.data.toList.drop 275 = dktX7_endorsement_12 := dk_seg dksX7_endorsement_11 24 rfl rfl
theorem dksX7_endorsement_13 : cX7_endorsement.data.toList.drop 298 = dktX7_endorsement_13 := dk_seg dksX7_endorsement_12 23 rfl rfl
theorem dksX7_endorsement_14 : cX7_endorsement.data.toList.drop 322 = dktX7_endorsement_14 := dk_seg dksX7_endorsement_13 24 rfl rfl
theorem dX7_endorsement_0 : decode cX7_endorsement 0 = .ok (.new 350, 3) := dk_187 1 94 (dk_at dksX7_endorsement_0 0 rfl rfl)
theorem dX7_endorsement_3 : decode cX7_endorsement 3 = .ok (.dup, 1) := dk_89 (dk_at dksX7_endorsement_0 3 rfl rfl)
theorem dX7_endorsement_4 : decode cX7_endorsement 4 = .ok (.aload_n 1, 1) := dk_43 (dk_at dksX7_endorsement_0 4 rfl rfl)
theorem dX7_endorsement_5 : decode cX7_endorsement 5 = .ok (.getfield 317, 3) := dk_180 1 61 (dk_at dksX7_endorsement_0 5 rfl rfl)
theorem dX7_endorsement_8 : decode cX7_endorsement 8 = .ok (.invokespecial 352, 3) := dk_183 1 96 (dk_at dksX7_endorsement_0 8 rfl rfl)
theorem dX7_endorsement_11 : decode cX7_endorsement 11 = .ok (.astore_n 2, 1) := dk_77 (dk_at dksX7_endorsement_0 11 rfl rfl)
theorem dX7_endorsement_12 : decode cX7_endorsement 12 = .ok (.bipush 24, 2) := dk_16 24 (dk_at dksX7_endorsement_0 12 rfl rfl)
theorem dX7_endorsement_14 : decode cX7_endorsement 14 = .ok (.newarray .boolean, 2) := dk_188_4 (dk_at dksX7_endorsement_0 14 rfl rfl)
theorem dX7_endorsement_16 : decode cX7_endorsement 16 = .ok (.astore_n 3, 1) := dk_78 (dk_at dksX7_endorsement_0 16 rfl rfl)
theorem dX7_endorsement_17 : decode cX7_endorsement 17 = .ok (.new 350, 3) := dk_187 1 94 (dk_at dksX7_endorsement_0 17 rfl rfl)
theorem dX7_endorsement_20 : decode cX7_endorsement 20 = .ok (.dup, 1) := dk_89 (dk_at dksX7_endorsement_0 20 rfl rfl)
theorem dX7_endorsement_21 : decode cX7_endorsement 21 = .ok (.invokespecial 355, 3) := dk_183 1 99 (dk_at dksX7_endorsement_0 21 rfl rfl)
theorem dX7_endorsement_24 : decode cX7_endorsement 24 = .ok (.astore 4, 2) := dk_58 4 (dk_at dksX7_endorsement_1 0 rfl rfl)
theorem dX7_endorsement_26 : decode cX7_endorsement 26 = .ok (.aload_n 0, 1) := dk_42 (dk_at dksX7_endorsement_1 2 rfl rfl)
theorem dX7_endorsement_27 : decode cX7_endorsement 27 = .ok (.getfield 46, 3) := dk_180 0 46 (dk_at dksX7_endorsement_1 3 rfl rfl)
theorem dX7_endorsement_30 : decode cX7_endorsement 30 = .ok (.ifCond .eq 186, 3) := dk_153 0 186 (dk_at dksX7_endorsement_1 6 rfl rfl)
theorem dX7_endorsement_33 : decode cX7_endorsement 33 = .ok (.aload_n 0, 1) := dk_42 (dk_at dksX7_endorsement_1 9 rfl rfl)
theorem dX7_endorsement_34 : decode cX7_endorsement 34 = .ok (.ldc2_w 356, 3) := dk_20 1 100 (dk_at dksX7_endorsement_1 10 rfl rfl)
theorem dX7_endorsement_37 : decode cX7_endorsement 37 = .ok (.invokevirtual 99, 3) := dk_182 0 99 (dk_at dksX7_endorsement_1 13 rfl rfl)
theorem dX7_endorsement_40 : decode cX7_endorsement 40 = .ok (.istore 5, 2) := dk_54 5 (dk_at dksX7_endorsement_1 16 rfl rfl)
theorem dX7_endorsement_42 : decode cX7_endorsement 42 = .ok (.aload_n 0, 1) := dk_42 (dk_at dksX7_endorsement_1 18 rfl rfl)
theorem dX7_endorsement_43 : decode cX7_endorsement 43 = .ok (.invokevirtual 313, 3) := dk_182 1 57 (dk_at dksX7_endorsement_1 19 rfl rfl)
theorem dX7_endorsement_46 : decode cX7_endorsement 46 = .ok (.ifCond .eq 18, 3) := dk_153 0 18 (dk_at dksX7_endorsement_2 0 rfl rfl)
theorem dX7_endorsement_49 : decode cX7_endorsement 49 = .ok (.aload 4, 2) := dk_25 4 (dk_at dksX7_endorsement_2 3 rfl rfl)
theorem dX7_endorsement_51 : decode cX7_endorsement 51 = .ok (.aload_n 0, 1) := dk_42 (dk_at dksX7_endorsement_2 5 rfl rfl)
theorem dX7_endorsement_52 : decode cX7_endorsement 52 = .ok (.invokevirtual 320, 3) := dk_182 1 64 (dk_at dksX7_endorsement_2 6 rfl rfl)
theorem dX7_endorsement_55 : decode cX7_endorsement 55 = .ok (.invokeinterface 111 2, 5) := by decide +kernel
theorem dX7_endorsement_60 : decode cX7_endorsement 60 = .ok (.pop, 1) := dk_87 (dk_at dksX7_endorsement_2 14 rfl rfl)
theorem dX7_endorsement_61 : decode cX7_endorsement 61 = .ok (.goto 152, 3) := dk_167 0 152 (dk_at dksX7_endorsement_2 15 rfl rfl)
theorem dX7_endorsement_64 : decode cX7_endorsement 64 = .ok (.iload 5, 2) := dk_21 5 (dk_at dksX7_endorsement_2 18 rfl rfl)
theorem dX7_endorsement_66 : decode cX7_endorsement 66 = .ok (.ifCond .ne 13, 3) := dk_154 0 13 (dk_at dksX7_endorsement_2 20 rfl rfl)
theorem dX7_endorsement_69 : decode cX7_endorsement 69 = .ok (.aload_n 0, 1) := dk_42 (dk_at dksX7_endorsement_2 23 rfl rfl)
theorem dX7_endorsement_70 : decode cX7_endorsement 70 = .ok (.ldc2_w 358, 3) := dk_20 1 102 (dk_at dksX7_endorsement_3 0 rfl rfl)
theorem dX7_endorsement_73 : decode cX7_endorsement 73 = .ok (.invokevirtual 99, 3) := dk_182 0 99 (dk_at dksX7_endorsement_3 3 rfl rfl)
theorem dX7_endorsement_76 : decode cX7_endorsement 76 = .ok (.ifCond .eq 124, 3) := dk_153 0 124 (dk_at dksX7_endorsement_3 6 rfl rfl)
theorem dX7_endorsement_79 : decode cX7_endorsement 79 = .ok (.aload_n 0, 1) := dk_42 (dk_at dksX7_endorsement_3 9 rfl rfl)
theorem dX7_endorsement_80 : decode cX7_endorsement 80 = .ok (.invokevirtual 23, 3) := dk_182 0 23 (dk_at dksX7_endorsement_3 10 rfl rfl)
theorem dX7_endorsement_83 : decode cX7_endorsement 83 = .ok (.aload_n 0, 1) := dk_42 (dk_at dksX7_endorsement_3 13 rfl rfl)
theorem dX7_endorsement_84 : decode cX7_endorsement 84 = .ok (.iconst 2, 1) := dk_5 (dk_at dksX7_endorsement_3 14 rfl rfl)
theorem dX7_endorsement_85 : decode cX7_endorsement 85 = .ok (.invokevirtual 81, 3) := dk_182 0 81 (dk_at dksX7_endorsement_3 15 rfl rfl)
theorem dX7_endorsement_88 : decode cX7_endorsement 88 = .ok (.aload_n 0, 1) := dk_42 (dk_at dksX7_endorsement_3 18 rfl rfl)
theorem dX7_endorsement_89 : decode cX7_endorsement 89 = .ok (.getfield 69, 3) := dk_180 0 69 (dk_at dksX7_endorsement_3 19 rfl rfl)
theorem dX7_endorsement_92 : decode cX7_endorsement 92 = .ok (.iconst 1, 1) := dk_4 (dk_at dksX7_endorsement_3 22 rfl rfl)
theorem dX7_endorsement_93 : decode cX7_endorsement 93 = .ok (.isub, 1) := dk_100 (dk_at dksX7_endorsement_3 23 rfl rfl)
theorem dX7_endorsement_94 : decode cX7_endorsement 94 = .ok (.istore 6, 2) := dk_54 6 (dk_at dksX7_endorsement_4 0 rfl rfl)
theorem dX7_endorsement_96 : decode cX7_endorsement 96 = .ok (.iload 6, 2) := dk_21 6 (dk_at dksX7_endorsement_4 2 rfl rfl)
theorem dX7_endorsement_98 : decode cX7_endorsement 98 = .ok (.ifCond .lt 21, 3) := dk_155 0 21 (dk_at dksX7_endorsement_4 4 rfl rfl)
theorem dX7_endorsement_101 : decode cX7_endorsement 101 = .ok (.iload 6, 2) := dk_21 6 (dk_at dksX7_endorsement_4 7 rfl rfl)
theorem dX7_endorsement_103 : decode cX7_endorsement 103 = .ok (.aload_n 2, 1) := dk_44 (dk_at dksX7_endorsement_4 9 rfl rfl)
theorem dX7_endorsement_104 : decode cX7_endorsement 104 = .ok (.invokeinterface 223 1, 5) := by decide +kernel
theorem dX7_endorsement_109 : decode cX7_endorsement 109 = .ok (.if_icmp .ge 10, 3) := dk_162 0 10 (dk_at dksX7_endorsement_4 15 rfl rfl)
theorem dX7_endorsement_112 : decode cX7_endorsement 112 = .ok (.aload_n 3, 1) := dk_45 (dk_at dksX7_endorsement_4 18 rfl rfl)
theorem dX7_endorsement_113 : decode cX7_endorsement 113 = .ok (.iload 6, 2) := dk_21 6 (dk_at dksX7_endorsement_4 19 rfl rfl)
theorem dX7_endorsement_115 : decode cX7_endorsement 115 = .ok (.baload, 1) := dk_51 (dk_at dksX7_endorsement_4 21 rfl rfl)
theorem dX7_endorsement_116 : decode cX7_endorsement 116 = .ok (.ifCond .eq 16, 3) := dk_153 0 16 (dk_at dksX7_endorsement_5 0 rfl rfl)
theorem dX7_endorsement_119 : decode cX7_endorsement 119 = .ok (.new 60, 3) := dk_187 0 60 (dk_at dksX7_endorsement_5 3 rfl rfl)
theorem dX7_endorsement_122 : decode cX7_endorsement 122 = .ok (.dup, 1) := dk_89 (dk_at dksX7_endorsement_5 6 rfl rfl)
theorem dX7_endorsement_123 : decode cX7_endorsement 123 = .ok (.iconst 5, 1) := dk_8 (dk_at dksX7_endorsement_5 7 rfl rfl)
theorem dX7_endorsement_124 : decode cX7_endorsement 124 = .ok (.aload_n 0, 1) := dk_42 (dk_at dksX7_endorsement_5 8 rfl rfl)
theorem dX7_endorsement_125 : decode cX7_endorsement 125 = .ok (.getfield 43, 3) := dk_180 0 43 (dk_at dksX7_endorsement_5 9 rfl rfl)
theorem dX7_endorsement_128 : decode cX7_endorsement 128 = .ok (.invokespecial 62, 3) := dk_183 0 62 (dk_at dksX7_endorsement_5 12 rfl rfl)
theorem dX7_endorsement_131 : decode cX7_endorsement 131 = .ok (.athrow, 1) := dk_191 (dk_at dksX7_endorsement_5 15 rfl rfl)
theorem dX7_endorsement_132 : decode cX7_endorsement 132 = .ok (.aload_n 3, 1) := dk_45 (dk_at dksX7_endorsement_5 16 rfl rfl)
theorem dX7_endorsement_133 : decode cX7_endorsement 133 = .ok (.iload 6, 2) := dk_21 6 (dk_at dksX7_endorsement_5 17 rfl rfl)
theorem dX7_endorsement_135 : decode cX7_endorsement 135 = .ok (.iconst 1, 1) := dk_4 (dk_at dksX7_endorsement_5 19 rfl rfl)
theorem dX7_endorsement_136 : decode cX7_endorsement 136 = .ok (.bastore, 1) := dk_84 (dk_at dksX7_endorsement_5 20 rfl rfl)
theorem dX7_endorsement_137 : decode cX7_endorsement 137 = .ok (.aload_n 0, 1) := dk_42 (dk_at dksX7_endorsement_5 21 rfl rfl)
theorem dX7_endorsement_138 : decode cX7_endorsement 138 = .ok (.invokevirtual 23, 3) := dk_182 0 23 (dk_at dksX7_endorsement_6 0 rfl rfl)
theorem dX7_endorsement_141 : decode cX7_endorsement 141 = .ok (.iload 5, 2) := dk_21 5 (dk_at dksX7_endorsement_6 3 rfl rfl)
theorem dX7_endorsement_143 : decode cX7_endorsement 143 = .ok (.ifCond .eq 12, 3) := dk_153 0 12 (dk_at dksX7_endorsement_6 5 rfl rfl)
theorem dX7_endorsement_146 : decode cX7_endorsement 146 = .ok (.aload_n 0, 1) := dk_42 (dk_at dksX7_endorsement_6 8 rfl rfl)
theorem dX7_endorsement_147 : decode cX7_endorsement 147 = .ok (.bipush 59, 2) := dk_16 59 (dk_at dksX7_endorsement_6 9 rfl rfl)
theorem dX7_endorsement_149 : decode cX7_endorsement 149 = .ok (.invokevirtual 136, 3) := dk_182 0 136 (dk_at dksX7_endorsement_6 11 rfl rfl)
theorem dX7_endorsement_152 : decode cX7_endorsement 152 = .ok (.goto 23, 3) := dk_167 0 23 (dk_at dksX7_endorsement_6 14 rfl rfl)
theorem dX7_endorsement_155 : decode cX7_endorsement 155 = .ok (.aload_n 0, 1) := dk_42 (dk_at dksX7_endorsement_6 17 rfl rfl)
theorem dX7_endorsement_156 : decode cX7_endorsement 156 = .ok (.invokevirtual 313, 3) := dk_182 1 57 (dk_at dksX7_endorsement_6 18 rfl rfl)
theorem dX7_endorsement_159 : decode cX7_endorsement 159 = .ok (.ifCond .ne 16, 3) := dk_154 0 16 (dk_at dksX7_endorsement_6 21 rfl rfl)
theorem dX7_endorsement_162 : decode cX7_endorsement 162 = .ok (.new 60, 3) := dk_187 0 60 (dk_at dksX7_endorsement_7 0 rfl rfl)
theorem dX7_endorsement_165 : decode cX7_endorsement 165 = .ok (.dup, 1) := dk_89 (dk_at dksX7_endorsement_7 3 rfl rfl)
theorem dX7_endorsement_166 : decode cX7_endorsement 166 = .ok (.iconst 2, 1) := dk_5 (dk_at dksX7_endorsement_7 4 rfl rfl)
theorem dX7_endorsement_167 : decode cX7_endorsement 167 = .ok (.aload_n 0, 1) := dk_42 (dk_at dksX7_endorsement_7 5 rfl rfl)
theorem dX7_endorsement_168 : decode cX7_endorsement 168 = .ok (.getfield 43, 3) := dk_180 0 43 (dk_at dksX7_endorsement_7 6 rfl rfl)
theorem dX7_endorsement_171 : decode cX7_endorsement 171 = .ok (.invokespecial 62, 3) := dk_183 0 62 (dk_at dksX7_endorsement_7 9 rfl rfl)
theorem dX7_endorsement_174 : decode cX7_endorsement 174 = .ok (.athrow, 1) := dk_191 (dk_at dksX7_endorsement_7 12 rfl rfl)
theorem dX7_endorsement_175 : decode cX7_endorsement 175 = .ok (.aload_n 2, 1) := dk_44 (dk_at dksX7_endorsement_7 13 rfl rfl)
theorem dX7_endorsement_176 : decode cX7_endorsement 176 = .ok (.iload 6, 2) := dk_21 6 (dk_at dksX7_endorsement_7 14 rfl rfl)
theorem dX7_endorsement_178 : decode cX7_endorsement 178 = .ok (.iload 5, 2) := dk_21 5 (dk_at dksX7_endorsement_7 16 rfl rfl)
theorem dX7_endorsement_180 : decode cX7_endorsement 180 = .ok (.ifCond .eq 7, 3) := dk_153 0 7 (dk_at dksX7_endorsement_7 18 rfl rfl)
theorem dX7_endorsement_183 : decode cX7_endorsement 183 = .ok (.aconst_null, 1) := dk_1 (dk_at dksX7_endorsement_7 21 rfl rfl)
theorem dX7_endorsement_184 : decode cX7_endorsement 184 = .ok (.goto 7, 3) := dk_167 0 7 (dk_at dksX7_endorsement_8 0 rfl rfl)
theorem dX7_endorsement_187 : decode cX7_endorsement 187 = .ok (.aload_n 0, 1) := dk_42 (dk_at dksX7_endorsement_8 3 rfl rfl)
theorem dX7_endorsement_188 : decode cX7_endorsement 188 = .ok (.invokevirtual 320, 3) := dk_182 1 64 (dk_at dksX7_endorsement_8 4 rfl rfl)
theorem dX7_endorsement_191 : decode cX7_endorsement 191 = .ok (.invokeinterface 360 3, 5) := by decide +kernel
theorem dX7_endorsement_196 : decode cX7_endorsement 196 = .ok (.pop, 1) := dk_87 (dk_at dksX7_endorsement_8 12 rfl rfl)
theorem dX7_endorsement_197 : decode cX7_endorsement 197 = .ok (.goto 16, 3) := dk_167 0 16 (dk_at dksX7_endorsement_8 13 rfl rfl)
theorem dX7_endorsement_200 : decode cX7_endorsement 200 = .ok (.new 60, 3) := dk_187 0 60 (dk_at dksX7_endorsement_8 16 rfl rfl)
theorem dX7_endorsement_203 : decode cX7_endorsement 203 = .ok (.dup, 1) := dk_89 (dk_at dksX7_endorsement_8 19 rfl rfl)
theorem dX7_endorsement_204 : decode cX7_endorsement 204 = .ok (.iconst 2, 1) := dk_5 (dk_at dksX7_endorsement_8 20 rfl rfl)
theorem dX7_endorsement_205 : decode cX7_endorsement 205 = .ok (.aload_n 0, 1) := dk_42 (dk_at dksX7_endorsement_8 21 rfl rfl)
theorem dX7_endorsement_206 : decode cX7_endorsement 206 = .ok (.getfield 43, 3) := dk_180 0 43 (dk_at dksX7_endorsement_9 0 rfl rfl)
theorem dX7_endorsement_209 : decode cX7_endorsement 209 = .ok (.invokespecial 62, 3) := dk_183 0 62 (dk_at dksX7_endorsement_9 3 rfl rfl)
theorem dX7_endorsement_212 : decode cX7_endorsement 212 = .ok (.athrow, 1) := dk_191 (dk_at dksX7_endorsement_9 6 rfl rfl)
theorem dX7_endorsement_213 : decode cX7_endorsement 213 = .ok (.goto (-187), 3) := dk_167 255 69 (dk_at dksX7_endorsement_9 7 rfl rfl)
theorem dX7_endorsement_216 : decode cX7_endorsement 216 = .ok (.iconst 0, 1) := dk_3 (dk_at dksX7_endorsement_9 10 rfl rfl)
theorem dX7_endorsement_217 : decode cX7_endorsement 217 = .ok (.istore 5, 2) := dk_54 5 (dk_at dksX7_endorsement_9 11 rfl rfl)
theorem dX7_endorsement_219 : decode cX7_endorsement 219 = .ok (.iload 5, 2) := dk_21 5 (dk_at dksX7_endorsement_9 13 rfl rfl)
theorem dX7_endorsement_221 : decode cX7_endorsement 221 = .ok (.aload_n 2, 1) := dk_44 (dk_at dksX7_endorsement_9 15 rfl rfl)
theorem dX7_endorsement_222 : decode cX7_endorsement 222 = .ok (.invokeinterface 223 1, 5) := by decide +kernel
theorem dX7_endorsement_227 : decode cX7_endorsement 227 = .ok (.if_icmp .ge 44, 3) := dk_162 0 44 (dk_at dksX7_endorsement_9 21 rfl rfl)
theorem dX7_endorsement_230 : decode cX7_endorsement 230 = .ok (.aload_n 2, 1) := dk_44 (dk_at dksX7_endorsement_10 0 rfl rfl)
theorem dX7_endorsement_231 : decode cX7_endorsement 231 = .ok (.iload 5, 2) := dk_21 5 (dk_at dksX7_endorsement_10 1 rfl rfl)
theorem dX7_endorsement_233 : decode cX7_endorsement 233 = .ok (.invokeinterface 158 2, 5) := by decide +kernel
theorem dX7_endorsement_238 : decode cX7_endorsement 238 = .ok (.ifnull 27, 3) := dk_198 0 27 (dk_at dksX7_endorsement_10 8 rfl rfl)
theorem dX7_endorsement_241 : decode cX7_endorsement 241 = .ok (.aload_n 0, 1) := dk_42 (dk_at dksX7_endorsement_10 11 rfl rfl)
theorem dX7_endorsement_242 : decode cX7_endorsement 242 = .ok (.getfield 15, 3) := dk_180 0 15 (dk_at dksX7_endorsement_10 12 rfl rfl)
theorem dX7_endorsement_245 : decode cX7_endorsement 245 = .ok (.getfield 317, 3) := dk_180 1 61 (dk_at dksX7_endorsement_10 15 rfl rfl)
theorem dX7_endorsement_248 : decode cX7_endorsement 248 = .ok (.aload_n 2, 1) := dk_44 (dk_at dksX7_endorsement_10 18 rfl rfl)
theorem dX7_endorsement_249 : decode cX7_endorsement 249 = .ok (.iload 5, 2) := dk_21 5 (dk_at dksX7_endorsement_10 19 rfl rfl)
theorem dX7_endorsement_251 : decode cX7_endorsement 251 = .ok (.invokeinterface 158 2, 5) := by decide +kernel
theorem dX7_endorsement_256 : decode cX7_endorsement 256 = .ok (.checkcast 214, 3) := dk_192 0 214 (dk_at dksX7_endorsement_11 5 rfl rfl)
theorem dX7_endorsement_259 : decode cX7_endorsement 259 = .ok (.invokeinterface 111 2, 5) := by decide +kernel
theorem dX7_endorsement_264 : decode cX7_endorsement 264 = .ok (.pop, 1) := dk_87 (dk_at dksX7_endorsement_11 13 rfl rfl)
theorem dX7_endorsement_265 : decode cX7_endorsement 265 = .ok (.iinc 5 1, 3) := dk_132 5 1 (dk_at dksX7_endorsement_11 14 rfl rfl)
theorem dX7_endorsement_268 : decode cX7_endorsement 268 = .ok (.goto (-49), 3) := dk_167 255 207 (dk_at dksX7_endorsement_11 17 rfl rfl)
theorem dX7_endorsement_271 : decode cX7_endorsement 271 = .ok (.aload_n 0, 1) := dk_42 (dk_at dksX7_endorsement_11 20 rfl rfl)
theorem dX7_endorsement_272 : decode cX7_endorsement 272 = .ok (.getfield 15, 3) := dk_180 0 15 (dk_at dksX7_endorsement_11 21 rfl rfl)
theorem dX7_endorsement_275 : decode cX7_endorsement 275 = .ok (.getfield 317, 3) := dk_180 1 61 (dk_at dksX7_endorsement_12 0 rfl rfl)
theorem dX7_endorsement_278 : decode cX7_endorsement 278 = .ok (.aload 4, 2) := dk_25 4 (dk_at dksX7_endorsement_12 3 rfl rfl)
theorem dX7_endorsement_280 : decode cX7_endorsement 280 = .ok (.invokeinterface 364 2, 5) := by decide +kernel
theorem dX7_endorsement_285 : decode cX7_endorsement 285 = .ok (.pop, 1) := dk_87 (dk_at dksX7_endorsement_12 10 rfl rfl)
theorem dX7_endorsement_286 : decode cX7_endorsement 286 = .ok (.aload_n 0, 1) := dk_42 (dk_at dksX7_endorsement_12 11 rfl rfl)
theorem dX7_endorsement_287 : decode cX7_endorsement 287 = .ok (.getfield 15, 3) := dk_180 0 15 (dk_at dksX7_endorsement_12 12 rfl rfl)
theorem dX7_endorsement_290 : decode cX7_endorsement 290 = .ok (.getfield 317, 3) := dk_180 1 61 (dk_at dksX7_endorsement_12 15 rfl rfl)
theorem dX7_endorsement_293 : decode cX7_endorsement 293 = .ok (.invokeinterface 223 1, 5) := by decide +kernel
theorem dX7_endorsement_298 : decode cX7_endorsement 298 = .ok (.bipush 24, 2) := dk_16 24 (dk_at dksX7_endorsement_13 0 rfl rfl)
theorem dX7_endorsement_300 : decode cX7_endorsement 300 = .ok (.if_icmp .gt 16, 3) := dk_163 0 16 (dk_at dksX7_endorsement_13 2 rfl rfl)
theorem dX7_endorsement_303 : decode cX7_endorsement 303 = .ok (.aload_n 0, 1) := dk_42 (dk_at dksX7_endorsement_13 5 rfl rfl)
theorem dX7_endorsement_304 : decode cX7_endorsement 304 = .ok (.getfield 15, 3) := dk_180 0 15 (dk_at dksX7_endorsement_13 6 rfl rfl)
theorem dX7_endorsement_307 : decode cX7_endorsement 307 = .ok (.invokevirtual 368, 3) := dk_182 1 112 (dk_at dksX7_endorsement_13 9 rfl rfl)
theorem dX7_endorsement_310 : decode cX7_endorsement 310 = .ok (.sipush 300, 3) := dk_17 1 44 (dk_at dksX7_endorsement_13 12 rfl rfl)
theorem dX7_endorsement_313 : decode cX7_endorsement 313 = .ok (.if_icmp .le 20, 3) := dk_164 0 20 (dk_at dksX7_endorsement_13 15 rfl rfl)
theorem dX7_endorsement_316 : decode cX7_endorsement 316 = .ok (.new 60, 3) := dk_187 0 60 (dk_at dksX7_endorsement_13 18 rfl rfl)
theorem dX7_endorsement_319 : decode cX7_endorsement 319 = .ok (.dup, 1) := dk_89 (dk_at dksX7_endorsement_13 21 rfl rfl)
theorem dX7_endorsement_320 : decode cX7_endorsement 320 = .ok (.bipush 6, 2) := dk_16 6 (dk_at dksX7_endorsement_13 22 rfl rfl)
theorem dX7_endorsement_322 : decode cX7_endorsement 322 = .ok (.aload_n 0, 1) := dk_42 (dk_at dksX7_endorsement_14 0 rfl rfl)
theorem dX7_endorsement_323 : decode cX7_endorsement 323 = .ok (.getfield 3, 3) := dk_180 0 3 (dk_at dksX7_endorsement_14 1 rfl rfl)
theorem dX7_endorsement_326 : decode cX7_endorsement 326 = .ok (.getfield 26, 3) := dk_180 0 26 (dk_at dksX7_endorsement_14 4 rfl rfl)
theorem dX7_endorsement_329 : decode cX7_endorsement 329 = .ok (.invokespecial 62, 3) := dk_183 0 62 (dk_at dksX7_endorsement_14 7 rfl rfl)
theorem dX7_endorsement_332 : decode cX7_endorsement 332 = .ok (.athrow, 1) := dk_191 (dk_at dksX7_endorsement_14 10 rfl rfl)
theorem dX7_endorsement_333 : decode cX7_endorsement 333 = .ok (.return_, 1) := dk_177 (dk_at dksX7_endorsement_14 11 rfl rfl)
abbrev cX7_law : ByteArray := prog_18_method_34_code
def yX7_law : MethodName := ⟨RX7, "law", "()I"⟩
def dkwX7_law_3 : List UInt8 := [182, 0, 133, 181, 1, 121, 42, 3, 182, 0, 81, 27, 172]
abbrev dktX7_law_3 : List UInt8 := dkwX7_law_3 ++ []
def dkwX7_law_2 : List UInt8 := [187, 0, 60, 89, 5, 42, 180, 0, 43, 183, 0, 62, 191, 42, 182, 0, 23, 42, 180, 0, 3, 42]
abbrev dktX7_law_2 : List UInt8 := dkwX7_law_2 ++ dktX7_law_3
def dkwX7_law_1 : List UInt8 := [4, 167, 0, 18, 42, 20, 1, 119, 182, 0, 99, 153, 0, 7, 5, 167, 0, 4, 2, 60, 27, 156, 0, 16]
abbrev dktX7_law_1 : List UInt8 := dkwX7_law_1 ++ dktX7_law_2
def dkwX7_law_0 : List UInt8 := [42, 20, 1, 115, 182, 0, 99, 153, 0, 7, 3, 167, 0, 32, 42, 20, 1, 117, 182, 0, 99, 153, 0, 7]
abbrev dktX7_law_0 : List UInt8 := dkwX7_law_0 ++ dktX7_law_1
theorem dksX7_law_0 : cX7_law.data.toList.drop 0 = dktX7_law_0 := by decide +kernel
theorem dksX7_law_1 : cX7_law.data.toList.drop 24 = dktX7_law_1 := dk_seg dksX7_law_0 24 rfl rfl
theorem dksX7_law_2 : cX7_law.data.toList.drop 48 = dktX7_law_2 := dk_seg dksX7_law_1 24 rfl rfl
theorem dksX7_law_3 : cX7_law.data.toList.drop 70 = dktX7_law_3 := dk_seg dksX7_law_2 22 rfl rfl
theorem dX7_law_0 : decode cX7_law 0 = .ok (.aload_n 0, 1) := dk_42 (dk_at dksX7_law_0 0 rfl rfl)
theorem dX7_law_1 : decode cX7_law 1 = .ok (.ldc2_w 371, 3) := dk_20 1 115 (dk_at dksX7_law_0 1 rfl rfl)
theorem dX7_law_4 : decode cX7_law 4 = .ok (.invokevirtual 99, 3) := dk_182 0 99 (dk_at dksX7_law_0 4 rfl rfl)
theorem dX7_law_7 : decode cX7_law 7 = .ok (.ifCond .eq 7, 3) := dk_153 0 7 (dk_at dksX7_law_0 7 rfl rfl)
theorem dX7_law_10 : decode cX7_law 10 = .ok (.iconst 0, 1) := dk_3 (dk_at dksX7_law_0 10 rfl rfl)
theorem dX7_law_11 : decode cX7_law 11 = .ok (.goto 32, 3) := dk_167 0 32 (dk_at dksX7_law_0 11 rfl rfl)
theorem dX7_law_14 : decode cX7_law 14 = .ok (.aload_n 0, 1) := dk_42 (dk_at dksX7_law_0 14 rfl rfl)
theorem dX7_law_15 : decode cX7_law 15 = .ok (.ldc2_w 373, 3) := dk_20 1 117 (dk_at dksX7_law_0 15 rfl rfl)
theorem dX7_law_18 : decode cX7_law 18 = .ok (.invokevirtual 99, 3) := dk_182 0 99 (dk_at dksX7_law_0 18 rfl rfl)
theorem dX7_law_21 : decode cX7_law 21 = .ok (.ifCond .eq 7, 3) := dk_153 0 7 (dk_at dksX7_law_0 21 rfl rfl)
theorem dX7_law_24 : decode cX7_law 24 = .ok (.iconst 1, 1) := dk_4 (dk_at dksX7_law_1 0 rfl rfl)
theorem dX7_law_25 : decode cX7_law 25 = .ok (.goto 18, 3) := dk_167 0 18 (dk_at dksX7_law_1 1 rfl rfl)
theorem dX7_law_28 : decode cX7_law 28 = .ok (.aload_n 0, 1) := dk_42 (dk_at dksX7_law_1 4 rfl rfl)
theorem dX7_law_29 : decode cX7_law 29 = .ok (.ldc2_w 375, 3) := dk_20 1 119 (dk_at dksX7_law_1 5 rfl rfl)
theorem dX7_law_32 : decode cX7_law 32 = .ok (.invokevirtual 99, 3) := dk_182 0 99 (dk_at dksX7_law_1 8 rfl rfl)
theorem dX7_law_35 : decode cX7_law 35 = .ok (.ifCond .eq 7, 3) := dk_153 0 7 (dk_at dksX7_law_1 11 rfl rfl)
theorem dX7_law_38 : decode cX7_law 38 = .ok (.iconst 2, 1) := dk_5 (dk_at dksX7_law_1 14 rfl rfl)
theorem dX7_law_39 : decode cX7_law 39 = .ok (.goto 4, 3) := dk_167 0 4 (dk_at dksX7_law_1 15 rfl rfl)
theorem dX7_law_42 : decode cX7_law 42 = .ok (.iconst (-1), 1) := dk_2 (dk_at dksX7_law_1 18 rfl rfl)
theorem dX7_law_43 : decode cX7_law 43 = .ok (.istore_n 1, 1) := dk_60 (dk_at dksX7_law_1 19 rfl rfl)
theorem dX7_law_44 : decode cX7_law 44 = .ok (.iload_n 1, 1) := dk_27 (dk_at dksX7_law_1 20 rfl rfl)
theorem dX7_law_45 : decode cX7_law 45 = .ok (.ifCond .ge 16, 3) := dk_156 0 16 (dk_at dksX7_law_1 21 rfl rfl)
theorem dX7_law_48 : decode cX7_law 48 = .ok (.new 60, 3) := dk_187 0 60 (dk_at dksX7_law_2 0 rfl rfl)
theorem dX7_law_51 : decode cX7_law 51 = .ok (.dup, 1) := dk_89 (dk_at dksX7_law_2 3 rfl rfl)
theorem dX7_law_52 : decode cX7_law 52 = .ok (.iconst 2, 1) := dk_5 (dk_at dksX7_law_2 4 rfl rfl)
theorem dX7_law_53 : decode cX7_law 53 = .ok (.aload_n 0, 1) := dk_42 (dk_at dksX7_law_2 5 rfl rfl)
theorem dX7_law_54 : decode cX7_law 54 = .ok (.getfield 43, 3) := dk_180 0 43 (dk_at dksX7_law_2 6 rfl rfl)
theorem dX7_law_57 : decode cX7_law 57 = .ok (.invokespecial 62, 3) := dk_183 0 62 (dk_at dksX7_law_2 9 rfl rfl)
theorem dX7_law_60 : decode cX7_law 60 = .ok (.athrow, 1) := dk_191 (dk_at dksX7_law_2 12 rfl rfl)
theorem dX7_law_61 : decode cX7_law 61 = .ok (.aload_n 0, 1) := dk_42 (dk_at dksX7_law_2 13 rfl rfl)
theorem dX7_law_62 : decode cX7_law 62 = .ok (.invokevirtual 23, 3) := dk_182 0 23 (dk_at dksX7_law_2 14 rfl rfl)
theorem dX7_law_65 : decode cX7_law 65 = .ok (.aload_n 0, 1) := dk_42 (dk_at dksX7_law_2 17 rfl rfl)
theorem dX7_law_66 : decode cX7_law 66 = .ok (.getfield 3, 3) := dk_180 0 3 (dk_at dksX7_law_2 18 rfl rfl)
theorem dX7_law_69 : decode cX7_law 69 = .ok (.aload_n 0, 1) := dk_42 (dk_at dksX7_law_2 21 rfl rfl)
theorem dX7_law_70 : decode cX7_law 70 = .ok (.invokevirtual 133, 3) := dk_182 0 133 (dk_at dksX7_law_3 0 rfl rfl)
theorem dX7_law_73 : decode cX7_law 73 = .ok (.putfield 377, 3) := dk_181 1 121 (dk_at dksX7_law_3 3 rfl rfl)
theorem dX7_law_76 : decode cX7_law 76 = .ok (.aload_n 0, 1) := dk_42 (dk_at dksX7_law_3 6 rfl rfl)
theorem dX7_law_77 : decode cX7_law 77 = .ok (.iconst 0, 1) := dk_3 (dk_at dksX7_law_3 7 rfl rfl)
theorem dX7_law_78 : decode cX7_law 78 = .ok (.invokevirtual 81, 3) := dk_182 0 81 (dk_at dksX7_law_3 8 rfl rfl)
theorem dX7_law_81 : decode cX7_law 81 = .ok (.iload_n 1, 1) := dk_27 (dk_at dksX7_law_3 11 rfl rfl)
theorem dX7_law_82 : decode cX7_law 82 = .ok (.ireturn, 1) := dk_172 (dk_at dksX7_law_3 12 rfl rfl)
theorem q146 : (Jvm.Cond.initialized "CoverHouse$Reader") ∈ lw_all := lw_g (lw_at lw_m1 19 rfl) rfl
theorem q374 : (Jvm.Cond.selects "CoverHouse$Reader" ({ cls := "java/lang/Object", name := "getClass", desc := "()Ljava/lang/Class;" } : Jvm.MethodName) ({ cls := "java/lang/Object", name := "getClass", desc := "()Ljava/lang/Class;" } : Jvm.MethodName)) ∈ lw_all := lw_g (lw_at lw_m2 7 rfl) rfl
theorem q441 : (Jvm.Cond.fieldLinkNest "CoverHouse$Reader" (29 : Nat) "CoverHouse" "text" "[B" "CoverHouse") ∈ lw_tbl := lw_at lw_m2 74 rfl
theorem q443 : (Jvm.Cond.fieldLinkNest "CoverHouse$Reader" (26 : Nat) "CoverHouse" "textSize" "I" "CoverHouse") ∈ lw_tbl := lw_at lw_m2 76 rfl
theorem q447 : (Jvm.Cond.fieldLinkNest "CoverHouse$Reader" (377 : Nat) "CoverHouse" "law" "LCoverHouse$Cond;" "CoverHouse") ∈ lw_tbl := lw_at lw_m2 80 rfl
theorem q577 : (Jvm.Cond.fieldLinkNest "CoverHouse$Reader" (155 : Nat) "CoverHouse$Wording" "facts" "Ljava/util/List;" "CoverHouse") ∈ lw_tbl := lw_at lw_m2 210 rfl
theorem q579 : (Jvm.Cond.fieldLinkNest "CoverHouse$Reader" (259 : Nat) "CoverHouse$Wording" "meaningNames" "Ljava/util/List;" "CoverHouse") ∈ lw_tbl := lw_at lw_m2 212 rfl
theorem q581 : (Jvm.Cond.fieldLinkNest "CoverHouse$Reader" (253 : Nat) "CoverHouse$Wording" "meanings" "Ljava/util/List;" "CoverHouse") ∈ lw_tbl := lw_at lw_m2 214 rfl
theorem q584 : (Jvm.Cond.fieldLinkNest "CoverHouse$Reader" (317 : Nat) "CoverHouse$Wording" "clauses" "Ljava/util/List;" "CoverHouse") ∈ lw_tbl := lw_at lw_m2 217 rfl
theorem q587 : (Jvm.Cond.fieldLinkNest "CoverHouse$Reader" (289 : Nat) "CoverHouse$Wording" "rows" "Ljava/util/List;" "CoverHouse") ∈ lw_tbl := lw_at lw_m2 220 rfl
theorem q590 : (Jvm.Cond.fieldLinkNest "CoverHouse$Reader" (326 : Nat) "CoverHouse$Wording" "first" "I" "CoverHouse") ∈ lw_tbl := lw_at lw_m2 223 rfl
theorem q593 : (Jvm.Cond.fieldLinkNest "CoverHouse$Reader" (334 : Nat) "CoverHouse$Wording" "share" "I" "CoverHouse") ∈ lw_tbl := lw_at lw_m2 226 rfl
theorem q596 : (Jvm.Cond.fieldLinkNest "CoverHouse$Reader" (275 : Nat) "CoverHouse$Wording" "most" "[I" "CoverHouse") ∈ lw_tbl := lw_at lw_m2 229 rfl
theorem q598 : (Jvm.Cond.fieldLinkNest "CoverHouse$Reader" (256 : Nat) "CoverHouse$Wording" "otherNodes" "I" "CoverHouse") ∈ lw_tbl := lw_at lw_m2 231 rfl
theorem q642 : (Jvm.Cond.instantiable "CoverHouse$Reader" (11 : Nat)) ∈ lw_all := lw_g (lw_at lw_m3 35 rfl) rfl
theorem q644 : (Jvm.Cond.instanceMethod ({ cls := "CoverHouse$Reader", name := "<init>", desc := "(LCoverHouse;LCoverHouse$Wording;I)V" } : Jvm.MethodName)) ∈ lw_all := lw_g (lw_at lw_m3 37 rfl) rfl
theorem q645 : (Jvm.Cond.code ({ cls := "CoverHouse$Reader", name := "<init>", desc := "(LCoverHouse;LCoverHouse$Wording;I)V" } : Jvm.MethodName) prog_18_method_1_code (4 : Nat) (Option.none : Option Jvm.ClassFile.FieldType)) ∈ lw_all := lw_g (lw_at lw_m3 38 rfl) rfl
theorem q646 : (Jvm.Cond.methodLink "CoverHouse$Reader" (9 : Nat) ({ cls := "java/lang/Object", name := "<init>", desc := "()V" } : Jvm.MethodName)) ∈ lw_all := lw_g (lw_at lw_m3 39 rfl) rfl
theorem q647 : (Jvm.Cond.methodLink "CoverHouse$Reader" (23 : Nat) ({ cls := "CoverHouse$Reader", name := "next", desc := "()V" } : Jvm.MethodName)) ∈ lw_all := lw_g (lw_at lw_m3 40 rfl) rfl
theorem q648 : (Jvm.Cond.privateMethod ({ cls := "CoverHouse$Reader", name := "next", desc := "()V" } : Jvm.MethodName)) ∈ lw_tbl := lw_at lw_m3 41 rfl
theorem q649 : (Jvm.Cond.instanceMethod ({ cls := "CoverHouse$Reader", name := "next", desc := "()V" } : Jvm.MethodName)) ∈ lw_all := lw_g (lw_at lw_m3 42 rfl) rfl
theorem q650 : (Jvm.Cond.code ({ cls := "CoverHouse$Reader", name := "next", desc := "()V" } : Jvm.MethodName) prog_18_method_6_code (2 : Nat) (Option.none : Option Jvm.ClassFile.FieldType)) ∈ lw_all := lw_g (lw_at lw_m3 43 rfl) rfl
theorem q651 : (Jvm.Cond.methodLink "CoverHouse$Reader" (40 : Nat) ({ cls := "CoverHouse$Reader", name := "pass", desc := "()V" } : Jvm.MethodName)) ∈ lw_all := lw_g (lw_at lw_m3 44 rfl) rfl
theorem q652 : (Jvm.Cond.privateMethod ({ cls := "CoverHouse$Reader", name := "pass", desc := "()V" } : Jvm.MethodName)) ∈ lw_tbl := lw_at lw_m3 45 rfl
theorem q653 : (Jvm.Cond.instanceMethod ({ cls := "CoverHouse$Reader", name := "pass", desc := "()V" } : Jvm.MethodName)) ∈ lw_all := lw_g (lw_at lw_m3 46 rfl) rfl
theorem q654 : (Jvm.Cond.code ({ cls := "CoverHouse$Reader", name := "pass", desc := "()V" } : Jvm.MethodName) prog_18_method_5_code (3 : Nat) (Option.none : Option Jvm.ClassFile.FieldType)) ∈ lw_all := lw_g (lw_at lw_m3 47 rfl) rfl
theorem q655 : (Jvm.Cond.methodLink "CoverHouse$Reader" (36 : Nat) ({ cls := "CoverHouse$Reader", name := "octet", desc := "(I)I" } : Jvm.MethodName)) ∈ lw_all := lw_g (lw_at lw_m3 48 rfl) rfl
theorem q656 : (Jvm.Cond.privateMethod ({ cls := "CoverHouse$Reader", name := "octet", desc := "(I)I" } : Jvm.MethodName)) ∈ lw_tbl := lw_at lw_m3 49 rfl
theorem q657 : (Jvm.Cond.instanceMethod ({ cls := "CoverHouse$Reader", name := "octet", desc := "(I)I" } : Jvm.MethodName)) ∈ lw_all := lw_g (lw_at lw_m3 50 rfl) rfl
theorem q658 : (Jvm.Cond.code ({ cls := "CoverHouse$Reader", name := "octet", desc := "(I)I" } : Jvm.MethodName) prog_18_method_2_code (2 : Nat) (Option.some Jvm.ClassFile.FieldType.int)) ∈ lw_all := lw_g (lw_at lw_m3 51 rfl) rfl
theorem q659 : (Jvm.Cond.methodLink "CoverHouse$Reader" (49 : Nat) ({ cls := "CoverHouse$Reader", name := "isLetter", desc := "(I)Z" } : Jvm.MethodName)) ∈ lw_all := lw_g (lw_at lw_m3 52 rfl) rfl
theorem q660 : (Jvm.Cond.privateMethod ({ cls := "CoverHouse$Reader", name := "isLetter", desc := "(I)Z" } : Jvm.MethodName)) ∈ lw_tbl := lw_at lw_m3 53 rfl
theorem q661 : (Jvm.Cond.instanceMethod ({ cls := "CoverHouse$Reader", name := "isLetter", desc := "(I)Z" } : Jvm.MethodName)) ∈ lw_all := lw_g (lw_at lw_m3 54 rfl) rfl
theorem q662 : (Jvm.Cond.code ({ cls := "CoverHouse$Reader", name := "isLetter", desc := "(I)Z" } : Jvm.MethodName) prog_18_method_3_code (2 : Nat) (Option.some Jvm.ClassFile.FieldType.boolean)) ∈ lw_all := lw_g (lw_at lw_m3 55 rfl) rfl
theorem q663 : (Jvm.Cond.methodLink "CoverHouse$Reader" (57 : Nat) ({ cls := "CoverHouse$Reader", name := "isFigure", desc := "(I)Z" } : Jvm.MethodName)) ∈ lw_all := lw_g (lw_at lw_m3 56 rfl) rfl
theorem q664 : (Jvm.Cond.privateMethod ({ cls := "CoverHouse$Reader", name := "isFigure", desc := "(I)Z" } : Jvm.MethodName)) ∈ lw_tbl := lw_at lw_m3 57 rfl
theorem q665 : (Jvm.Cond.instanceMethod ({ cls := "CoverHouse$Reader", name := "isFigure", desc := "(I)Z" } : Jvm.MethodName)) ∈ lw_all := lw_g (lw_at lw_m3 58 rfl) rfl
theorem q666 : (Jvm.Cond.code ({ cls := "CoverHouse$Reader", name := "isFigure", desc := "(I)Z" } : Jvm.MethodName) prog_18_method_4_code (2 : Nat) (Option.some Jvm.ClassFile.FieldType.boolean)) ∈ lw_all := lw_g (lw_at lw_m3 59 rfl) rfl
theorem q667 : (Jvm.Cond.classLink "CoverHouse$Reader" (60 : Nat) "CoverHouse$Fault") ∈ lw_all := lw_g (lw_at lw_m3 60 rfl) rfl
theorem q706 : (Jvm.Cond.methodLink "CoverHouse$Reader" (62 : Nat) ({ cls := "CoverHouse$Fault", name := "<init>", desc := "(II)V" } : Jvm.MethodName)) ∈ lw_all := lw_g (lw_at lw_m3 99 rfl) rfl
theorem q736 : (Jvm.Cond.methodLinkNest "CoverHouse$Reader" (65 : Nat) ({ cls := "CoverHouse", name := "isWord", desc := "(J)Z" } : Jvm.MethodName) "CoverHouse") ∈ lw_tbl := lw_at lw_m3 129 rfl
theorem q740 : (Jvm.Cond.methodLink "CoverHouse$Reader" (72 : Nat) ({ cls := "CoverHouse$Reader", name := "sign", desc := "(I)V" } : Jvm.MethodName)) ∈ lw_all := lw_g (lw_at lw_m3 133 rfl) rfl
theorem q741 : (Jvm.Cond.privateMethod ({ cls := "CoverHouse$Reader", name := "sign", desc := "(I)V" } : Jvm.MethodName)) ∈ lw_tbl := lw_at lw_m3 134 rfl
theorem q742 : (Jvm.Cond.instanceMethod ({ cls := "CoverHouse$Reader", name := "sign", desc := "(I)V" } : Jvm.MethodName)) ∈ lw_all := lw_g (lw_at lw_m3 135 rfl) rfl
theorem q743 : (Jvm.Cond.code ({ cls := "CoverHouse$Reader", name := "sign", desc := "(I)V" } : Jvm.MethodName) prog_18_method_7_code (4 : Nat) (Option.none : Option Jvm.ClassFile.FieldType)) ∈ lw_all := lw_g (lw_at lw_m3 136 rfl) rfl
theorem q744 : (Jvm.Cond.fieldLink "CoverHouse$Reader" (33 : Nat) "CoverHouse$Reader" "at" "I") ∈ lw_all := lw_g (lw_at lw_m3 137 rfl) rfl
theorem q745 : (Jvm.Cond.fieldLink "CoverHouse$Reader" (46 : Nat) "CoverHouse$Reader" "kind" "I") ∈ lw_all := lw_g (lw_at lw_m3 138 rfl) rfl
theorem q746 : (Jvm.Cond.fieldLink "CoverHouse$Reader" (43 : Nat) "CoverHouse$Reader" "from" "I") ∈ lw_all := lw_g (lw_at lw_m3 139 rfl) rfl
theorem q747 : (Jvm.Cond.fieldLink "CoverHouse$Reader" (53 : Nat) "CoverHouse$Reader" "name" "J") ∈ lw_all := lw_g (lw_at lw_m3 140 rfl) rfl
theorem q748 : (Jvm.Cond.fieldLink "CoverHouse$Reader" (69 : Nat) "CoverHouse$Reader" "value" "I") ∈ lw_all := lw_g (lw_at lw_m3 141 rfl) rfl
theorem q749 : (Jvm.Cond.fieldLink "CoverHouse$Reader" (76 : Nat) "CoverHouse$Reader" "sign" "I") ∈ lw_all := lw_g (lw_at lw_m3 142 rfl) rfl
theorem q750 : (Jvm.Cond.fieldLink "CoverHouse$Reader" (15 : Nat) "CoverHouse$Reader" "into" "LCoverHouse$Wording;") ∈ lw_all := lw_g (lw_at lw_m3 143 rfl) rfl
theorem q751 : (Jvm.Cond.fieldLink "CoverHouse$Reader" (125 : Nat) "CoverHouse$Reader" "depth" "I") ∈ lw_all := lw_g (lw_at lw_m3 144 rfl) rfl
theorem q752 : (Jvm.Cond.fieldLink "CoverHouse$Reader" (84 : Nat) "CoverHouse$Reader" "nodes" "I") ∈ lw_all := lw_g (lw_at lw_m3 145 rfl) rfl
theorem q753 : (Jvm.Cond.fieldLink "CoverHouse$Reader" (19 : Nat) "CoverHouse$Reader" "mostNodes" "I") ∈ lw_all := lw_g (lw_at lw_m3 146 rfl) rfl
theorem q754 : (Jvm.Cond.fieldLink "CoverHouse$Reader" (3 : Nat) "CoverHouse$Reader" "this$0" "LCoverHouse;") ∈ lw_all := lw_g (lw_at lw_m3 147 rfl) rfl
theorem q755 : (Jvm.Cond.lays "CoverHouse$Reader" "CoverHouse$Reader" "at" "I") ∈ lw_all := lw_g (lw_at lw_m3 148 rfl) rfl
theorem q756 : (Jvm.Cond.soleField "CoverHouse$Reader" "at") ∈ lw_all := lw_g (lw_at lw_m3 149 rfl) rfl
theorem q757 : (Jvm.Cond.lays "CoverHouse$Reader" "CoverHouse$Reader" "kind" "I") ∈ lw_all := lw_g (lw_at lw_m3 150 rfl) rfl
theorem q758 : (Jvm.Cond.soleField "CoverHouse$Reader" "kind") ∈ lw_all := lw_g (lw_at lw_m3 151 rfl) rfl
theorem q759 : (Jvm.Cond.lays "CoverHouse$Reader" "CoverHouse$Reader" "from" "I") ∈ lw_all := lw_g (lw_at lw_m3 152 rfl) rfl
theorem q760 : (Jvm.Cond.soleField "CoverHouse$Reader" "from") ∈ lw_all := lw_g (lw_at lw_m3 153 rfl) rfl
theorem q761 : (Jvm.Cond.lays "CoverHouse$Reader" "CoverHouse$Reader" "name" "J") ∈ lw_all := lw_g (lw_at lw_m3 154 rfl) rfl
theorem q762 : (Jvm.Cond.soleField "CoverHouse$Reader" "name") ∈ lw_all := lw_g (lw_at lw_m3 155 rfl) rfl
theorem q763 : (Jvm.Cond.lays "CoverHouse$Reader" "CoverHouse$Reader" "value" "I") ∈ lw_all := lw_g (lw_at lw_m3 156 rfl) rfl
theorem q764 : (Jvm.Cond.soleField "CoverHouse$Reader" "value") ∈ lw_all := lw_g (lw_at lw_m3 157 rfl) rfl
theorem q765 : (Jvm.Cond.lays "CoverHouse$Reader" "CoverHouse$Reader" "sign" "I") ∈ lw_all := lw_g (lw_at lw_m3 158 rfl) rfl
theorem q766 : (Jvm.Cond.soleField "CoverHouse$Reader" "sign") ∈ lw_all := lw_g (lw_at lw_m3 159 rfl) rfl
theorem q767 : (Jvm.Cond.lays "CoverHouse$Reader" "CoverHouse$Reader" "into" "LCoverHouse$Wording;") ∈ lw_all := lw_g (lw_at lw_m3 160 rfl) rfl
theorem q768 : (Jvm.Cond.soleField "CoverHouse$Reader" "into") ∈ lw_all := lw_g (lw_at lw_m3 161 rfl) rfl
theorem q769 : (Jvm.Cond.lays "CoverHouse$Reader" "CoverHouse$Reader" "depth" "I") ∈ lw_all := lw_g (lw_at lw_m3 162 rfl) rfl
theorem q770 : (Jvm.Cond.soleField "CoverHouse$Reader" "depth") ∈ lw_all := lw_g (lw_at lw_m3 163 rfl) rfl
theorem q771 : (Jvm.Cond.lays "CoverHouse$Reader" "CoverHouse$Reader" "nodes" "I") ∈ lw_all := lw_g (lw_at lw_m3 164 rfl) rfl
theorem q772 : (Jvm.Cond.soleField "CoverHouse$Reader" "nodes") ∈ lw_all := lw_g (lw_at lw_m3 165 rfl) rfl
theorem q773 : (Jvm.Cond.lays "CoverHouse$Reader" "CoverHouse$Reader" "mostNodes" "I") ∈ lw_all := lw_g (lw_at lw_m3 166 rfl) rfl
theorem q774 : (Jvm.Cond.soleField "CoverHouse$Reader" "mostNodes") ∈ lw_all := lw_g (lw_at lw_m3 167 rfl) rfl
theorem q775 : (Jvm.Cond.laysFinal "CoverHouse$Reader" "CoverHouse$Reader" "this$0" "LCoverHouse;") ∈ lw_all := lw_g (lw_at lw_m3 168 rfl) rfl
theorem q776 : (Jvm.Cond.soleField "CoverHouse$Reader" "this$0") ∈ lw_all := lw_g (lw_at lw_m3 169 rfl) rfl
theorem q777 : (Jvm.Cond.superclass "CoverHouse$Reader" "java/lang/Object") ∈ lw_all := lw_g (lw_at lw_m3 170 rfl) rfl
theorem q779 : (Jvm.Cond.instanceMethod ({ cls := "CoverHouse$Reader", name := "wording", desc := "()V" } : Jvm.MethodName)) ∈ lw_all := lw_g (lw_at lw_m3 172 rfl) rfl
theorem q780 : (Jvm.Cond.selects "CoverHouse$Reader" ({ cls := "CoverHouse$Reader", name := "wording", desc := "()V" } : Jvm.MethodName) ({ cls := "CoverHouse$Reader", name := "wording", desc := "()V" } : Jvm.MethodName)) ∈ lw_all := lw_g (lw_at lw_m3 173 rfl) rfl
theorem q781 : (Jvm.Cond.code ({ cls := "CoverHouse$Reader", name := "wording", desc := "()V" } : Jvm.MethodName) prog_18_method_32_code (1 : Nat) (Option.none : Option Jvm.ClassFile.FieldType)) ∈ lw_all := lw_g (lw_at lw_m3 174 rfl) rfl
theorem q782 : (Jvm.Cond.methodLink "CoverHouse$Reader" (347 : Nat) ({ cls := "CoverHouse$Reader", name := "item", desc := "()V" } : Jvm.MethodName)) ∈ lw_all := lw_g (lw_at lw_m3 175 rfl) rfl
theorem q783 : (Jvm.Cond.privateMethod ({ cls := "CoverHouse$Reader", name := "item", desc := "()V" } : Jvm.MethodName)) ∈ lw_tbl := lw_at lw_m3 176 rfl
theorem q784 : (Jvm.Cond.instanceMethod ({ cls := "CoverHouse$Reader", name := "item", desc := "()V" } : Jvm.MethodName)) ∈ lw_all := lw_g (lw_at lw_m3 177 rfl) rfl
theorem q785 : (Jvm.Cond.code ({ cls := "CoverHouse$Reader", name := "item", desc := "()V" } : Jvm.MethodName) prog_18_method_31_code (2 : Nat) (Option.none : Option Jvm.ClassFile.FieldType)) ∈ lw_all := lw_g (lw_at lw_m3 178 rfl) rfl
theorem q786 : (Jvm.Cond.constantLong "CoverHouse$Reader" (305 : Nat) (1717658484 : Int64)) ∈ lw_all := lw_g (lw_at lw_m3 179 rfl) rfl
theorem q787 : (Jvm.Cond.methodLink "CoverHouse$Reader" (99 : Nat) ({ cls := "CoverHouse$Reader", name := "is", desc := "(J)Z" } : Jvm.MethodName)) ∈ lw_all := lw_g (lw_at lw_m3 180 rfl) rfl
theorem q788 : (Jvm.Cond.privateMethod ({ cls := "CoverHouse$Reader", name := "is", desc := "(J)Z" } : Jvm.MethodName)) ∈ lw_tbl := lw_at lw_m3 181 rfl
theorem q789 : (Jvm.Cond.instanceMethod ({ cls := "CoverHouse$Reader", name := "is", desc := "(J)Z" } : Jvm.MethodName)) ∈ lw_all := lw_g (lw_at lw_m3 182 rfl) rfl
theorem q790 : (Jvm.Cond.code ({ cls := "CoverHouse$Reader", name := "is", desc := "(J)Z" } : Jvm.MethodName) prog_18_method_9_code (3 : Nat) (Option.some Jvm.ClassFile.FieldType.boolean)) ∈ lw_all := lw_g (lw_at lw_m3 183 rfl) rfl
theorem q791 : (Jvm.Cond.methodLink "CoverHouse$Reader" (307 : Nat) ({ cls := "CoverHouse$Reader", name := "fact", desc := "()V" } : Jvm.MethodName)) ∈ lw_all := lw_g (lw_at lw_m3 184 rfl) rfl
theorem q792 : (Jvm.Cond.privateMethod ({ cls := "CoverHouse$Reader", name := "fact", desc := "()V" } : Jvm.MethodName)) ∈ lw_tbl := lw_at lw_m3 185 rfl
theorem q793 : (Jvm.Cond.instanceMethod ({ cls := "CoverHouse$Reader", name := "fact", desc := "()V" } : Jvm.MethodName)) ∈ lw_all := lw_g (lw_at lw_m3 186 rfl) rfl
theorem q794 : (Jvm.Cond.code ({ cls := "CoverHouse$Reader", name := "fact", desc := "()V" } : Jvm.MethodName) prog_18_method_23_code (4 : Nat) (Option.none : Option Jvm.ClassFile.FieldType)) ∈ lw_all := lw_g (lw_at lw_m3 187 rfl) rfl
theorem q795 : (Jvm.Cond.methodLink "CoverHouse$Reader" (219 : Nat) ({ cls := "CoverHouse$Reader", name := "newName", desc := "()J" } : Jvm.MethodName)) ∈ lw_all := lw_g (lw_at lw_m3 188 rfl) rfl
theorem q796 : (Jvm.Cond.privateMethod ({ cls := "CoverHouse$Reader", name := "newName", desc := "()J" } : Jvm.MethodName)) ∈ lw_tbl := lw_at lw_m3 189 rfl
theorem q797 : (Jvm.Cond.instanceMethod ({ cls := "CoverHouse$Reader", name := "newName", desc := "()J" } : Jvm.MethodName)) ∈ lw_all := lw_g (lw_at lw_m3 190 rfl) rfl
theorem q798 : (Jvm.Cond.code ({ cls := "CoverHouse$Reader", name := "newName", desc := "()J" } : Jvm.MethodName) prog_18_method_22_code (1 : Nat) (Option.some Jvm.ClassFile.FieldType.long)) ∈ lw_all := lw_g (lw_at lw_m3 191 rfl) rfl
theorem q799 : (Jvm.Cond.methodLink "CoverHouse$Reader" (81 : Nat) ({ cls := "CoverHouse$Reader", name := "wantKind", desc := "(I)V" } : Jvm.MethodName)) ∈ lw_all := lw_g (lw_at lw_m3 192 rfl) rfl
theorem q800 : (Jvm.Cond.privateMethod ({ cls := "CoverHouse$Reader", name := "wantKind", desc := "(I)V" } : Jvm.MethodName)) ∈ lw_tbl := lw_at lw_m3 193 rfl
theorem q801 : (Jvm.Cond.instanceMethod ({ cls := "CoverHouse$Reader", name := "wantKind", desc := "(I)V" } : Jvm.MethodName)) ∈ lw_all := lw_g (lw_at lw_m3 194 rfl) rfl
theorem q802 : (Jvm.Cond.code ({ cls := "CoverHouse$Reader", name := "wantKind", desc := "(I)V" } : Jvm.MethodName) prog_18_method_11_code (2 : Nat) (Option.none : Option Jvm.ClassFile.FieldType)) ∈ lw_all := lw_g (lw_at lw_m3 195 rfl) rfl
theorem q803 : (Jvm.Cond.methodLink "CoverHouse$Reader" (142 : Nat) ({ cls := "CoverHouse$Wording", name := "fact", desc := "(J)I" } : Jvm.MethodName)) ∈ lw_all := lw_g (lw_at lw_m3 196 rfl) rfl
theorem q829 : (Jvm.Cond.methodLink "CoverHouse$Reader" (148 : Nat) ({ cls := "CoverHouse$Wording", name := "meaning", desc := "(J)I" } : Jvm.MethodName)) ∈ lw_all := lw_g (lw_at lw_m3 222 rfl) rfl
theorem q838 : (Jvm.Cond.interfaceEntry "CoverHouse$Reader" (223 : Nat)) ∈ lw_tbl := lw_at lw_m3 231 rfl
theorem q839 : (Jvm.Cond.methodLink "CoverHouse$Reader" (223 : Nat) ({ cls := "java/util/List", name := "size", desc := "()I" } : Jvm.MethodName)) ∈ lw_all := lw_g (lw_at lw_m3 232 rfl) rfl
theorem q840 : (Jvm.Cond.constantLong "CoverHouse$Reader" (227 : Nat) (7955827 : Int64)) ∈ lw_all := lw_g (lw_at lw_m3 233 rfl) rfl
theorem q841 : (Jvm.Cond.classLink "CoverHouse$Reader" (162 : Nat) "CoverHouse$Fact") ∈ lw_all := lw_g (lw_at lw_m3 234 rfl) rfl
theorem q843 : (Jvm.Cond.methodLink "CoverHouse$Reader" (229 : Nat) ({ cls := "CoverHouse$Fact", name := "<init>", desc := "(JI)V" } : Jvm.MethodName)) ∈ lw_all := lw_g (lw_at lw_m3 236 rfl) rfl
theorem q852 : (Jvm.Cond.fieldLinkNest "CoverHouse$Reader" (164 : Nat) "CoverHouse$Fact" "kind" "I" "CoverHouse") ∈ lw_tbl := lw_at lw_m4 5 rfl
theorem q854 : (Jvm.Cond.fieldLinkNest "CoverHouse$Reader" (250 : Nat) "CoverHouse$Fact" "choices" "[J" "CoverHouse") ∈ lw_tbl := lw_at lw_m4 7 rfl
theorem q857 : (Jvm.Cond.fieldLinkNest "CoverHouse$Reader" (248 : Nat) "CoverHouse$Fact" "many" "I" "CoverHouse") ∈ lw_tbl := lw_at lw_m4 10 rfl
theorem q861 : (Jvm.Cond.fieldLinkNest "CoverHouse$Reader" (240 : Nat) "CoverHouse$Fact" "low" "I" "CoverHouse") ∈ lw_tbl := lw_at lw_m4 14 rfl
theorem q865 : (Jvm.Cond.fieldLinkNest "CoverHouse$Reader" (245 : Nat) "CoverHouse$Fact" "high" "I" "CoverHouse") ∈ lw_tbl := lw_at lw_m4 18 rfl
theorem q879 : (Jvm.Cond.constantLong "CoverHouse$Reader" (232 : Nat) (7302757 : Int64)) ∈ lw_all := lw_g (lw_at lw_m4 32 rfl) rfl
theorem q880 : (Jvm.Cond.methodLink "CoverHouse$Reader" (234 : Nat) ({ cls := "CoverHouse$Reader", name := "choices", desc := "(LCoverHouse$Fact;)V" } : Jvm.MethodName)) ∈ lw_all := lw_g (lw_at lw_m4 33 rfl) rfl
theorem q881 : (Jvm.Cond.privateMethod ({ cls := "CoverHouse$Reader", name := "choices", desc := "(LCoverHouse$Fact;)V" } : Jvm.MethodName)) ∈ lw_tbl := lw_at lw_m4 34 rfl
theorem q882 : (Jvm.Cond.instanceMethod ({ cls := "CoverHouse$Reader", name := "choices", desc := "(LCoverHouse$Fact;)V" } : Jvm.MethodName)) ∈ lw_all := lw_g (lw_at lw_m4 35 rfl) rfl
theorem q883 : (Jvm.Cond.code ({ cls := "CoverHouse$Reader", name := "choices", desc := "(LCoverHouse$Fact;)V" } : Jvm.MethodName) prog_18_method_24_code (2 : Nat) (Option.none : Option Jvm.ClassFile.FieldType)) ∈ lw_all := lw_g (lw_at lw_m4 36 rfl) rfl
theorem q884 : (Jvm.Cond.methodLink "CoverHouse$Reader" (193 : Nat) ({ cls := "CoverHouse$Fact", name := "choice", desc := "(J)I" } : Jvm.MethodName)) ∈ lw_all := lw_g (lw_at lw_m4 37 rfl) rfl
theorem q888 : (Jvm.Cond.methodLink "CoverHouse$Reader" (78 : Nat) ({ cls := "CoverHouse$Reader", name := "isSign", desc := "(I)Z" } : Jvm.MethodName)) ∈ lw_all := lw_g (lw_at lw_m4 41 rfl) rfl
theorem q889 : (Jvm.Cond.privateMethod ({ cls := "CoverHouse$Reader", name := "isSign", desc := "(I)Z" } : Jvm.MethodName)) ∈ lw_tbl := lw_at lw_m4 42 rfl
theorem q890 : (Jvm.Cond.instanceMethod ({ cls := "CoverHouse$Reader", name := "isSign", desc := "(I)Z" } : Jvm.MethodName)) ∈ lw_all := lw_g (lw_at lw_m4 43 rfl) rfl
theorem q891 : (Jvm.Cond.code ({ cls := "CoverHouse$Reader", name := "isSign", desc := "(I)Z" } : Jvm.MethodName) prog_18_method_8_code (2 : Nat) (Option.some Jvm.ClassFile.FieldType.boolean)) ∈ lw_all := lw_g (lw_at lw_m4 44 rfl) rfl
theorem q892 : (Jvm.Cond.constantLong "CoverHouse$Reader" (238 : Nat) (1718775661 : Int64)) ∈ lw_all := lw_g (lw_at lw_m4 45 rfl) rfl
theorem q893 : (Jvm.Cond.constant "CoverHouse$Reader" (185 : Nat) (999999999 : Int32)) ∈ lw_all := lw_g (lw_at lw_m4 46 rfl) rfl
theorem q894 : (Jvm.Cond.methodLink "CoverHouse$Reader" (186 : Nat) ({ cls := "CoverHouse$Reader", name := "number", desc := "(II)I" } : Jvm.MethodName)) ∈ lw_all := lw_g (lw_at lw_m4 47 rfl) rfl
theorem q895 : (Jvm.Cond.privateMethod ({ cls := "CoverHouse$Reader", name := "number", desc := "(II)I" } : Jvm.MethodName)) ∈ lw_tbl := lw_at lw_m4 48 rfl
theorem q896 : (Jvm.Cond.instanceMethod ({ cls := "CoverHouse$Reader", name := "number", desc := "(II)I" } : Jvm.MethodName)) ∈ lw_all := lw_g (lw_at lw_m4 49 rfl) rfl
theorem q897 : (Jvm.Cond.code ({ cls := "CoverHouse$Reader", name := "number", desc := "(II)I" } : Jvm.MethodName) prog_18_method_12_code (4 : Nat) (Option.some Jvm.ClassFile.FieldType.int)) ∈ lw_all := lw_g (lw_at lw_m4 50 rfl) rfl
theorem q898 : (Jvm.Cond.constantLong "CoverHouse$Reader" (243 : Nat) (29807 : Int64)) ∈ lw_all := lw_g (lw_at lw_m4 51 rfl) rfl
theorem q899 : (Jvm.Cond.methodLink "CoverHouse$Reader" (136 : Nat) ({ cls := "CoverHouse$Reader", name := "want", desc := "(I)V" } : Jvm.MethodName)) ∈ lw_all := lw_g (lw_at lw_m4 52 rfl) rfl
theorem q900 : (Jvm.Cond.privateMethod ({ cls := "CoverHouse$Reader", name := "want", desc := "(I)V" } : Jvm.MethodName)) ∈ lw_tbl := lw_at lw_m4 53 rfl
theorem q901 : (Jvm.Cond.instanceMethod ({ cls := "CoverHouse$Reader", name := "want", desc := "(I)V" } : Jvm.MethodName)) ∈ lw_all := lw_g (lw_at lw_m4 54 rfl) rfl
theorem q902 : (Jvm.Cond.code ({ cls := "CoverHouse$Reader", name := "want", desc := "(I)V" } : Jvm.MethodName) prog_18_method_10_code (2 : Nat) (Option.none : Option Jvm.ClassFile.FieldType)) ∈ lw_all := lw_g (lw_at lw_m4 55 rfl) rfl
theorem q903 : (Jvm.Cond.interfaceEntry "CoverHouse$Reader" (111 : Nat)) ∈ lw_tbl := lw_at lw_m4 56 rfl
theorem q904 : (Jvm.Cond.methodLink "CoverHouse$Reader" (111 : Nat) ({ cls := "java/util/List", name := "add", desc := "(Ljava/lang/Object;)Z" } : Jvm.MethodName)) ∈ lw_all := lw_g (lw_at lw_m4 57 rfl) rfl
theorem q905 : (Jvm.Cond.constantLong "CoverHouse$Reader" (309 : Nat) (1835360622 : Int64)) ∈ lw_all := lw_g (lw_at lw_m4 58 rfl) rfl
theorem q906 : (Jvm.Cond.methodLink "CoverHouse$Reader" (311 : Nat) ({ cls := "CoverHouse$Reader", name := "meaning", desc := "()V" } : Jvm.MethodName)) ∈ lw_all := lw_g (lw_at lw_m4 59 rfl) rfl
theorem q907 : (Jvm.Cond.privateMethod ({ cls := "CoverHouse$Reader", name := "meaning", desc := "()V" } : Jvm.MethodName)) ∈ lw_tbl := lw_at lw_m4 60 rfl
theorem q908 : (Jvm.Cond.instanceMethod ({ cls := "CoverHouse$Reader", name := "meaning", desc := "()V" } : Jvm.MethodName)) ∈ lw_all := lw_g (lw_at lw_m4 61 rfl) rfl
theorem q909 : (Jvm.Cond.code ({ cls := "CoverHouse$Reader", name := "meaning", desc := "()V" } : Jvm.MethodName) prog_18_method_25_code (5 : Nat) (Option.none : Option Jvm.ClassFile.FieldType)) ∈ lw_all := lw_g (lw_at lw_m4 62 rfl) rfl
theorem q910 : (Jvm.Cond.methodLink "CoverHouse$Reader" (133 : Nat) ({ cls := "CoverHouse$Reader", name := "cond", desc := "()LCoverHouse$Cond;" } : Jvm.MethodName)) ∈ lw_all := lw_g (lw_at lw_m4 63 rfl) rfl
theorem q911 : (Jvm.Cond.privateMethod ({ cls := "CoverHouse$Reader", name := "cond", desc := "()LCoverHouse$Cond;" } : Jvm.MethodName)) ∈ lw_tbl := lw_at lw_m4 64 rfl
theorem q912 : (Jvm.Cond.instanceMethod ({ cls := "CoverHouse$Reader", name := "cond", desc := "()LCoverHouse$Cond;" } : Jvm.MethodName)) ∈ lw_all := lw_g (lw_at lw_m4 65 rfl) rfl
theorem q913 : (Jvm.Cond.code ({ cls := "CoverHouse$Reader", name := "cond", desc := "()LCoverHouse$Cond;" } : Jvm.MethodName) prog_18_method_14_code (1 : Nat) (Option.some (Jvm.ClassFile.FieldType.object "CoverHouse$Cond"))) ∈ lw_all := lw_g (lw_at lw_m4 66 rfl) rfl
theorem q914 : (Jvm.Cond.methodLink "CoverHouse$Reader" (87 : Nat) ({ cls := "CoverHouse$Reader", name := "many", desc := "(Z)LCoverHouse$Cond;" } : Jvm.MethodName)) ∈ lw_all := lw_g (lw_at lw_m4 67 rfl) rfl
theorem q915 : (Jvm.Cond.privateMethod ({ cls := "CoverHouse$Reader", name := "many", desc := "(Z)LCoverHouse$Cond;" } : Jvm.MethodName)) ∈ lw_tbl := lw_at lw_m4 68 rfl
theorem q916 : (Jvm.Cond.instanceMethod ({ cls := "CoverHouse$Reader", name := "many", desc := "(Z)LCoverHouse$Cond;" } : Jvm.MethodName)) ∈ lw_all := lw_g (lw_at lw_m4 69 rfl) rfl
theorem q917 : (Jvm.Cond.code ({ cls := "CoverHouse$Reader", name := "many", desc := "(Z)LCoverHouse$Cond;" } : Jvm.MethodName) prog_18_method_15_code (6 : Nat) (Option.some (Jvm.ClassFile.FieldType.object "CoverHouse$Cond"))) ∈ lw_all := lw_g (lw_at lw_m4 70 rfl) rfl
theorem q918 : (Jvm.Cond.methodLink "CoverHouse$Reader" (91 : Nat) ({ cls := "CoverHouse$Reader", name := "part", desc := "()LCoverHouse$Cond;" } : Jvm.MethodName)) ∈ lw_all := lw_g (lw_at lw_m4 71 rfl) rfl
theorem q919 : (Jvm.Cond.privateMethod ({ cls := "CoverHouse$Reader", name := "part", desc := "()LCoverHouse$Cond;" } : Jvm.MethodName)) ∈ lw_tbl := lw_at lw_m4 72 rfl
theorem q920 : (Jvm.Cond.instanceMethod ({ cls := "CoverHouse$Reader", name := "part", desc := "()LCoverHouse$Cond;" } : Jvm.MethodName)) ∈ lw_all := lw_g (lw_at lw_m4 73 rfl) rfl
theorem q921 : (Jvm.Cond.code ({ cls := "CoverHouse$Reader", name := "part", desc := "()LCoverHouse$Cond;" } : Jvm.MethodName) prog_18_method_16_code (2 : Nat) (Option.some (Jvm.ClassFile.FieldType.object "CoverHouse$Cond"))) ∈ lw_all := lw_g (lw_at lw_m4 74 rfl) rfl
theorem q922 : (Jvm.Cond.constantLong "CoverHouse$Reader" (120 : Nat) (7237492 : Int64)) ∈ lw_all := lw_g (lw_at lw_m4 75 rfl) rfl
theorem q923 : (Jvm.Cond.methodLink "CoverHouse$Reader" (117 : Nat) ({ cls := "CoverHouse$Reader", name := "node", desc := "()V" } : Jvm.MethodName)) ∈ lw_all := lw_g (lw_at lw_m4 76 rfl) rfl
theorem q924 : (Jvm.Cond.privateMethod ({ cls := "CoverHouse$Reader", name := "node", desc := "()V" } : Jvm.MethodName)) ∈ lw_tbl := lw_at lw_m4 77 rfl
theorem q925 : (Jvm.Cond.instanceMethod ({ cls := "CoverHouse$Reader", name := "node", desc := "()V" } : Jvm.MethodName)) ∈ lw_all := lw_g (lw_at lw_m4 78 rfl) rfl
theorem q926 : (Jvm.Cond.code ({ cls := "CoverHouse$Reader", name := "node", desc := "()V" } : Jvm.MethodName) prog_18_method_13_code (1 : Nat) (Option.none : Option Jvm.ClassFile.FieldType)) ∈ lw_all := lw_g (lw_at lw_m4 79 rfl) rfl
theorem q927 : (Jvm.Cond.methodLink "CoverHouse$Reader" (122 : Nat) ({ cls := "CoverHouse$Reader", name := "deeper", desc := "()V" } : Jvm.MethodName)) ∈ lw_all := lw_g (lw_at lw_m4 80 rfl) rfl
theorem q928 : (Jvm.Cond.privateMethod ({ cls := "CoverHouse$Reader", name := "deeper", desc := "()V" } : Jvm.MethodName)) ∈ lw_tbl := lw_at lw_m4 81 rfl
theorem q929 : (Jvm.Cond.instanceMethod ({ cls := "CoverHouse$Reader", name := "deeper", desc := "()V" } : Jvm.MethodName)) ∈ lw_all := lw_g (lw_at lw_m4 82 rfl) rfl
theorem q930 : (Jvm.Cond.code ({ cls := "CoverHouse$Reader", name := "deeper", desc := "()V" } : Jvm.MethodName) prog_18_method_17_code (1 : Nat) (Option.none : Option Jvm.ClassFile.FieldType)) ∈ lw_all := lw_g (lw_at lw_m4 83 rfl) rfl
theorem q931 : (Jvm.Cond.classLink "CoverHouse$Reader" (128 : Nat) "CoverHouse$Not") ∈ lw_all := lw_g (lw_at lw_m4 84 rfl) rfl
theorem q933 : (Jvm.Cond.methodLink "CoverHouse$Reader" (130 : Nat) ({ cls := "CoverHouse$Not", name := "<init>", desc := "(LCoverHouse$Cond;)V" } : Jvm.MethodName)) ∈ lw_all := lw_g (lw_at lw_m4 86 rfl) rfl
theorem q944 : (Jvm.Cond.methodLink "CoverHouse$Reader" (139 : Nat) ({ cls := "CoverHouse$Reader", name := "named", desc := "()LCoverHouse$Cond;" } : Jvm.MethodName)) ∈ lw_all := lw_g (lw_at lw_m4 97 rfl) rfl
theorem q945 : (Jvm.Cond.privateMethod ({ cls := "CoverHouse$Reader", name := "named", desc := "()LCoverHouse$Cond;" } : Jvm.MethodName)) ∈ lw_tbl := lw_at lw_m4 98 rfl
theorem q946 : (Jvm.Cond.instanceMethod ({ cls := "CoverHouse$Reader", name := "named", desc := "()LCoverHouse$Cond;" } : Jvm.MethodName)) ∈ lw_all := lw_g (lw_at lw_m4 99 rfl) rfl
theorem q947 : (Jvm.Cond.code ({ cls := "CoverHouse$Reader", name := "named", desc := "()LCoverHouse$Cond;" } : Jvm.MethodName) prog_18_method_18_code (6 : Nat) (Option.some (Jvm.ClassFile.FieldType.object "CoverHouse$Cond"))) ∈ lw_all := lw_g (lw_at lw_m4 100 rfl) rfl
theorem q948 : (Jvm.Cond.classLink "CoverHouse$Reader" (151 : Nat) "CoverHouse$Meaning") ∈ lw_all := lw_g (lw_at lw_m4 101 rfl) rfl
theorem q950 : (Jvm.Cond.methodLink "CoverHouse$Reader" (153 : Nat) ({ cls := "CoverHouse$Meaning", name := "<init>", desc := "(I)V" } : Jvm.MethodName)) ∈ lw_all := lw_g (lw_at lw_m4 103 rfl) rfl
theorem q958 : (Jvm.Cond.interfaceEntry "CoverHouse$Reader" (158 : Nat)) ∈ lw_tbl := lw_at lw_m4 111 rfl
theorem q959 : (Jvm.Cond.methodLink "CoverHouse$Reader" (158 : Nat) ({ cls := "java/util/List", name := "get", desc := "(I)Ljava/lang/Object;" } : Jvm.MethodName)) ∈ lw_all := lw_g (lw_at lw_m4 112 rfl) rfl
theorem q960 : (Jvm.Cond.classLink "CoverHouse$Reader" (165 : Nat) "CoverHouse$Is") ∈ lw_all := lw_g (lw_at lw_m4 113 rfl) rfl
theorem q962 : (Jvm.Cond.methodLink "CoverHouse$Reader" (167 : Nat) ({ cls := "CoverHouse$Is", name := "<init>", desc := "(IIZ)V" } : Jvm.MethodName)) ∈ lw_all := lw_g (lw_at lw_m4 115 rfl) rfl
theorem q976 : (Jvm.Cond.methodLink "CoverHouse$Reader" (170 : Nat) ({ cls := "CoverHouse$Reader", name := "signAtHand", desc := "()LCoverHouse$Sign;" } : Jvm.MethodName)) ∈ lw_all := lw_g (lw_at lw_m4 129 rfl) rfl
theorem q977 : (Jvm.Cond.privateMethod ({ cls := "CoverHouse$Reader", name := "signAtHand", desc := "()LCoverHouse$Sign;" } : Jvm.MethodName)) ∈ lw_tbl := lw_at lw_m4 130 rfl
theorem q978 : (Jvm.Cond.instanceMethod ({ cls := "CoverHouse$Reader", name := "signAtHand", desc := "()LCoverHouse$Sign;" } : Jvm.MethodName)) ∈ lw_all := lw_g (lw_at lw_m4 131 rfl) rfl
theorem q979 : (Jvm.Cond.code ({ cls := "CoverHouse$Reader", name := "signAtHand", desc := "()LCoverHouse$Sign;" } : Jvm.MethodName) prog_18_method_19_code (1 : Nat) (Option.some (Jvm.ClassFile.FieldType.object "CoverHouse$Sign"))) ∈ lw_all := lw_g (lw_at lw_m4 132 rfl) rfl
theorem q980 : (Jvm.Cond.fieldLink "CoverHouse$Reader" (174 : Nat) "CoverHouse$Sign" "SAME" "LCoverHouse$Sign;") ∈ lw_all := lw_g (lw_at lw_m4 133 rfl) rfl
theorem q982 : (Jvm.Cond.fieldLink "CoverHouse$Reader" (196 : Nat) "CoverHouse$Sign" "BELOW" "LCoverHouse$Sign;") ∈ lw_all := lw_g (lw_at lw_m4 135 rfl) rfl
theorem q984 : (Jvm.Cond.fieldLink "CoverHouse$Reader" (199 : Nat) "CoverHouse$Sign" "ABOVE" "LCoverHouse$Sign;") ∈ lw_all := lw_g (lw_at lw_m4 137 rfl) rfl
theorem q986 : (Jvm.Cond.fieldLink "CoverHouse$Reader" (202 : Nat) "CoverHouse$Sign" "MOST" "LCoverHouse$Sign;") ∈ lw_all := lw_g (lw_at lw_m4 139 rfl) rfl
theorem q988 : (Jvm.Cond.fieldLink "CoverHouse$Reader" (205 : Nat) "CoverHouse$Sign" "LEAST" "LCoverHouse$Sign;") ∈ lw_all := lw_g (lw_at lw_m4 141 rfl) rfl
theorem q990 : (Jvm.Cond.fieldLink "CoverHouse$Reader" (180 : Nat) "CoverHouse$Sign" "OTHER" "LCoverHouse$Sign;") ∈ lw_all := lw_g (lw_at lw_m4 143 rfl) rfl
theorem q992 : (Jvm.Cond.classLink "CoverHouse$Reader" (183 : Nat) "CoverHouse$Measure") ∈ lw_all := lw_g (lw_at lw_m4 145 rfl) rfl
theorem q994 : (Jvm.Cond.methodLink "CoverHouse$Reader" (190 : Nat) ({ cls := "CoverHouse$Measure", name := "<init>", desc := "(ILCoverHouse$Sign;I)V" } : Jvm.MethodName)) ∈ lw_all := lw_g (lw_at lw_m4 147 rfl) rfl
theorem q1008 : (Jvm.Cond.constantLong "CoverHouse$Reader" (95 : Nat) (28530 : Int64)) ∈ lw_all := lw_g (lw_at lw_m4 161 rfl) rfl
theorem q1009 : (Jvm.Cond.constantLong "CoverHouse$Reader" (97 : Nat) (6385252 : Int64)) ∈ lw_all := lw_g (lw_at lw_m4 162 rfl) rfl
theorem q1010 : (Jvm.Cond.classLink "CoverHouse$Reader" (102 : Nat) "CoverHouse$Many") ∈ lw_all := lw_g (lw_at lw_m4 163 rfl) rfl
theorem q1012 : (Jvm.Cond.methodLink "CoverHouse$Reader" (104 : Nat) ({ cls := "CoverHouse$Many", name := "<init>", desc := "(Z)V" } : Jvm.MethodName)) ∈ lw_all := lw_g (lw_at lw_m4 165 rfl) rfl
theorem q1020 : (Jvm.Cond.fieldLinkNest "CoverHouse$Reader" (107 : Nat) "CoverHouse$Many" "parts" "Ljava/util/List;" "CoverHouse") ∈ lw_tbl := lw_at lw_m4 173 rfl
theorem q1026 : (Jvm.Cond.methodLink "CoverHouse$Reader" (262 : Nat) ({ cls := "java/lang/Long", name := "valueOf", desc := "(J)Ljava/lang/Long;" } : Jvm.MethodName)) ∈ lw_all := lw_g (lw_at lw_m4 179 rfl) rfl
theorem q1046 : (Jvm.Cond.methodLink "CoverHouse$Reader" (313 : Nat) ({ cls := "CoverHouse$Reader", name := "isClause", desc := "()Z" } : Jvm.MethodName)) ∈ lw_all := lw_g (lw_at lw_m4 199 rfl) rfl
theorem q1047 : (Jvm.Cond.privateMethod ({ cls := "CoverHouse$Reader", name := "isClause", desc := "()Z" } : Jvm.MethodName)) ∈ lw_tbl := lw_at lw_m4 200 rfl
theorem q1048 : (Jvm.Cond.instanceMethod ({ cls := "CoverHouse$Reader", name := "isClause", desc := "()Z" } : Jvm.MethodName)) ∈ lw_all := lw_g (lw_at lw_m4 201 rfl) rfl
theorem q1049 : (Jvm.Cond.code ({ cls := "CoverHouse$Reader", name := "isClause", desc := "()Z" } : Jvm.MethodName) prog_18_method_20_code (1 : Nat) (Option.some Jvm.ClassFile.FieldType.boolean)) ∈ lw_all := lw_g (lw_at lw_m4 202 rfl) rfl
theorem q1050 : (Jvm.Cond.constantLong "CoverHouse$Reader" (208 : Nat) (427071792498 : Int64)) ∈ lw_all := lw_g (lw_at lw_m4 203 rfl) rfl
theorem q1051 : (Jvm.Cond.constantLong "CoverHouse$Reader" (210 : Nat) (465557354085 : Int64)) ∈ lw_all := lw_g (lw_at lw_m4 204 rfl) rfl
theorem q1052 : (Jvm.Cond.constantLong "CoverHouse$Reader" (212 : Nat) (1650549611 : Int64)) ∈ lw_all := lw_g (lw_at lw_m4 205 rfl) rfl
theorem q1053 : (Jvm.Cond.methodLink "CoverHouse$Reader" (320 : Nat) ({ cls := "CoverHouse$Reader", name := "clause", desc := "()LCoverHouse$Clause;" } : Jvm.MethodName)) ∈ lw_all := lw_g (lw_at lw_m4 206 rfl) rfl
theorem q1054 : (Jvm.Cond.privateMethod ({ cls := "CoverHouse$Reader", name := "clause", desc := "()LCoverHouse$Clause;" } : Jvm.MethodName)) ∈ lw_tbl := lw_at lw_m4 207 rfl
theorem q1055 : (Jvm.Cond.instanceMethod ({ cls := "CoverHouse$Reader", name := "clause", desc := "()LCoverHouse$Clause;" } : Jvm.MethodName)) ∈ lw_all := lw_g (lw_at lw_m4 208 rfl) rfl
theorem q1056 : (Jvm.Cond.code ({ cls := "CoverHouse$Reader", name := "clause", desc := "()LCoverHouse$Clause;" } : Jvm.MethodName) prog_18_method_21_code (4 : Nat) (Option.some (Jvm.ClassFile.FieldType.object "CoverHouse$Clause"))) ∈ lw_all := lw_g (lw_at lw_m4 209 rfl) rfl
theorem q1057 : (Jvm.Cond.classLink "CoverHouse$Reader" (214 : Nat) "CoverHouse$Clause") ∈ lw_all := lw_g (lw_at lw_m4 210 rfl) rfl
theorem q1059 : (Jvm.Cond.methodLink "CoverHouse$Reader" (216 : Nat) ({ cls := "CoverHouse$Clause", name := "<init>", desc := "(ILCoverHouse$Cond;I)V" } : Jvm.MethodName)) ∈ lw_all := lw_g (lw_at lw_m4 212 rfl) rfl
theorem q1077 : (Jvm.Cond.constantLong "CoverHouse$Reader" (324 : Nat) (439855772532 : Int64)) ∈ lw_all := lw_g (lw_at lw_m4 230 rfl) rfl
theorem q1078 : (Jvm.Cond.constant "CoverHouse$Reader" (268 : Nat) (99999999 : Int32)) ∈ lw_all := lw_g (lw_at lw_m4 231 rfl) rfl
theorem q1079 : (Jvm.Cond.methodLink "CoverHouse$Reader" (329 : Nat) ({ cls := "CoverHouse$Reader", name := "sum", desc := "(II)I" } : Jvm.MethodName)) ∈ lw_all := lw_g (lw_at lw_m4 232 rfl) rfl
theorem q1080 : (Jvm.Cond.privateMethod ({ cls := "CoverHouse$Reader", name := "sum", desc := "(II)I" } : Jvm.MethodName)) ∈ lw_tbl := lw_at lw_m4 233 rfl
theorem q1081 : (Jvm.Cond.instanceMethod ({ cls := "CoverHouse$Reader", name := "sum", desc := "(II)I" } : Jvm.MethodName)) ∈ lw_all := lw_g (lw_at lw_m4 234 rfl) rfl
theorem q1082 : (Jvm.Cond.code ({ cls := "CoverHouse$Reader", name := "sum", desc := "(II)I" } : Jvm.MethodName) prog_18_method_26_code (4 : Nat) (Option.some Jvm.ClassFile.FieldType.int)) ∈ lw_all := lw_g (lw_at lw_m4 235 rfl) rfl
theorem q1083 : (Jvm.Cond.constantLong "CoverHouse$Reader" (332 : Nat) (495672455781 : Int64)) ∈ lw_all := lw_g (lw_at lw_m4 236 rfl) rfl
theorem q1084 : (Jvm.Cond.constantLong "CoverHouse$Reader" (337 : Nat) (1836020596 : Int64)) ∈ lw_all := lw_g (lw_at lw_m4 237 rfl) rfl
theorem q1085 : (Jvm.Cond.methodLink "CoverHouse$Reader" (339 : Nat) ({ cls := "CoverHouse$Reader", name := "most", desc := "()V" } : Jvm.MethodName)) ∈ lw_all := lw_g (lw_at lw_m4 238 rfl) rfl
theorem q1086 : (Jvm.Cond.privateMethod ({ cls := "CoverHouse$Reader", name := "most", desc := "()V" } : Jvm.MethodName)) ∈ lw_tbl := lw_at lw_m4 239 rfl
theorem q1087 : (Jvm.Cond.instanceMethod ({ cls := "CoverHouse$Reader", name := "most", desc := "()V" } : Jvm.MethodName)) ∈ lw_all := lw_g (lw_at lw_m5 0 rfl) rfl
theorem q1088 : (Jvm.Cond.code ({ cls := "CoverHouse$Reader", name := "most", desc := "()V" } : Jvm.MethodName) prog_18_method_27_code (3 : Nat) (Option.none : Option Jvm.ClassFile.FieldType)) ∈ lw_all := lw_g (lw_at lw_m5 1 rfl) rfl
theorem q1089 : (Jvm.Cond.constantLong "CoverHouse$Reader" (269 : Nat) (435778055796 : Int64)) ∈ lw_all := lw_g (lw_at lw_m5 2 rfl) rfl
theorem q1090 : (Jvm.Cond.constantLong "CoverHouse$Reader" (271 : Nat) (2036687218 : Int64)) ∈ lw_all := lw_g (lw_at lw_m5 3 rfl) rfl
theorem q1091 : (Jvm.Cond.constantLong "CoverHouse$Reader" (273 : Nat) (6384748 : Int64)) ∈ lw_all := lw_g (lw_at lw_m5 4 rfl) rfl
theorem q1092 : (Jvm.Cond.methodLink "CoverHouse$Reader" (341 : Nat) ({ cls := "CoverHouse$Reader", name := "priceKind", desc := "()I" } : Jvm.MethodName)) ∈ lw_all := lw_g (lw_at lw_m5 5 rfl) rfl
theorem q1093 : (Jvm.Cond.privateMethod ({ cls := "CoverHouse$Reader", name := "priceKind", desc := "()I" } : Jvm.MethodName)) ∈ lw_tbl := lw_at lw_m5 6 rfl
theorem q1094 : (Jvm.Cond.instanceMethod ({ cls := "CoverHouse$Reader", name := "priceKind", desc := "()I" } : Jvm.MethodName)) ∈ lw_all := lw_g (lw_at lw_m5 7 rfl) rfl
theorem q1095 : (Jvm.Cond.code ({ cls := "CoverHouse$Reader", name := "priceKind", desc := "()I" } : Jvm.MethodName) prog_18_method_28_code (1 : Nat) (Option.some Jvm.ClassFile.FieldType.int)) ∈ lw_all := lw_g (lw_at lw_m5 8 rfl) rfl
theorem q1096 : (Jvm.Cond.constantLong "CoverHouse$Reader" (279 : Nat) (1918989413 : Int64)) ∈ lw_all := lw_g (lw_at lw_m5 9 rfl) rfl
theorem q1097 : (Jvm.Cond.constantLong "CoverHouse$Reader" (281 : Nat) (499984983411 : Int64)) ∈ lw_all := lw_g (lw_at lw_m5 10 rfl) rfl
theorem q1098 : (Jvm.Cond.constantLong "CoverHouse$Reader" (283 : Nat) (1886156147 : Int64)) ∈ lw_all := lw_g (lw_at lw_m5 11 rfl) rfl
theorem q1099 : (Jvm.Cond.constantLong "CoverHouse$Reader" (285 : Nat) (491496238692 : Int64)) ∈ lw_all := lw_g (lw_at lw_m5 12 rfl) rfl
theorem q1100 : (Jvm.Cond.constantLong "CoverHouse$Reader" (287 : Nat) (465557353332 : Int64)) ∈ lw_all := lw_g (lw_at lw_m5 13 rfl) rfl
theorem q1101 : (Jvm.Cond.methodLink "CoverHouse$Reader" (344 : Nat) ({ cls := "CoverHouse$Reader", name := "priceRow", desc := "(I)V" } : Jvm.MethodName)) ∈ lw_all := lw_g (lw_at lw_m5 14 rfl) rfl
theorem q1102 : (Jvm.Cond.privateMethod ({ cls := "CoverHouse$Reader", name := "priceRow", desc := "(I)V" } : Jvm.MethodName)) ∈ lw_tbl := lw_at lw_m5 15 rfl
theorem q1103 : (Jvm.Cond.instanceMethod ({ cls := "CoverHouse$Reader", name := "priceRow", desc := "(I)V" } : Jvm.MethodName)) ∈ lw_all := lw_g (lw_at lw_m5 16 rfl) rfl
theorem q1104 : (Jvm.Cond.code ({ cls := "CoverHouse$Reader", name := "priceRow", desc := "(I)V" } : Jvm.MethodName) prog_18_method_29_code (5 : Nat) (Option.none : Option Jvm.ClassFile.FieldType)) ∈ lw_all := lw_g (lw_at lw_m5 17 rfl) rfl
theorem q1105 : (Jvm.Cond.methodLink "CoverHouse$Reader" (292 : Nat) ({ cls := "CoverHouse$Reader", name := "timesBehind", desc := "()I" } : Jvm.MethodName)) ∈ lw_all := lw_g (lw_at lw_m5 18 rfl) rfl
theorem q1106 : (Jvm.Cond.privateMethod ({ cls := "CoverHouse$Reader", name := "timesBehind", desc := "()I" } : Jvm.MethodName)) ∈ lw_tbl := lw_at lw_m5 19 rfl
theorem q1107 : (Jvm.Cond.instanceMethod ({ cls := "CoverHouse$Reader", name := "timesBehind", desc := "()I" } : Jvm.MethodName)) ∈ lw_all := lw_g (lw_at lw_m5 20 rfl) rfl
theorem q1108 : (Jvm.Cond.code ({ cls := "CoverHouse$Reader", name := "timesBehind", desc := "()I" } : Jvm.MethodName) prog_18_method_30_code (3 : Nat) (Option.some Jvm.ClassFile.FieldType.int)) ∈ lw_all := lw_g (lw_at lw_m5 21 rfl) rfl
theorem q1109 : (Jvm.Cond.classLink "CoverHouse$Reader" (299 : Nat) "CoverHouse$PriceRow") ∈ lw_all := lw_g (lw_at lw_m5 22 rfl) rfl
theorem q1110 : (Jvm.Cond.constant "CoverHouse$Reader" (295 : Nat) (100000 : Int32)) ∈ lw_all := lw_g (lw_at lw_m5 23 rfl) rfl
theorem q1111 : (Jvm.Cond.constant "CoverHouse$Reader" (296 : Nat) (9999999 : Int32)) ∈ lw_all := lw_g (lw_at lw_m5 24 rfl) rfl
theorem q1112 : (Jvm.Cond.constantLong "CoverHouse$Reader" (297 : Nat) (26982 : Int64)) ∈ lw_all := lw_g (lw_at lw_m5 25 rfl) rfl
theorem q1114 : (Jvm.Cond.methodLink "CoverHouse$Reader" (301 : Nat) ({ cls := "CoverHouse$PriceRow", name := "<init>", desc := "(IILCoverHouse$Cond;)V" } : Jvm.MethodName)) ∈ lw_all := lw_g (lw_at lw_m5 27 rfl) rfl
theorem q1119 : (Jvm.Cond.fieldLinkNest "CoverHouse$Reader" (304 : Nat) "CoverHouse$PriceRow" "kind" "I" "CoverHouse") ∈ lw_tbl := lw_at lw_m5 32 rfl
theorem q1299 : (Jvm.Cond.instanceMethod ({ cls := "CoverHouse$Reader", name := "endorsement", desc := "(LCoverHouse$Wording;)V" } : Jvm.MethodName)) ∈ lw_all := lw_g (lw_at lw_m5 212 rfl) rfl
theorem q1300 : (Jvm.Cond.selects "CoverHouse$Reader" ({ cls := "CoverHouse$Reader", name := "endorsement", desc := "(LCoverHouse$Wording;)V" } : Jvm.MethodName) ({ cls := "CoverHouse$Reader", name := "endorsement", desc := "(LCoverHouse$Wording;)V" } : Jvm.MethodName)) ∈ lw_all := lw_g (lw_at lw_m5 213 rfl) rfl
theorem q1301 : (Jvm.Cond.code ({ cls := "CoverHouse$Reader", name := "endorsement", desc := "(LCoverHouse$Wording;)V" } : Jvm.MethodName) prog_18_method_33_code (7 : Nat) (Option.none : Option Jvm.ClassFile.FieldType)) ∈ lw_all := lw_g (lw_at lw_m5 214 rfl) rfl
theorem q1302 : (Jvm.Cond.classLink "CoverHouse$Reader" (350 : Nat) "java/util/ArrayList") ∈ lw_all := lw_g (lw_at lw_m5 215 rfl) rfl
theorem q1303 : (Jvm.Cond.methodLink "CoverHouse$Reader" (352 : Nat) ({ cls := "java/util/ArrayList", name := "<init>", desc := "(Ljava/util/Collection;)V" } : Jvm.MethodName)) ∈ lw_all := lw_g (lw_at lw_m5 216 rfl) rfl
theorem q1317 : (Jvm.Cond.methodLink "CoverHouse$Reader" (355 : Nat) ({ cls := "java/util/ArrayList", name := "<init>", desc := "()V" } : Jvm.MethodName)) ∈ lw_all := lw_g (lw_at lw_m5 230 rfl) rfl
theorem q1318 : (Jvm.Cond.constantLong "CoverHouse$Reader" (356 : Nat) (126943972911973 : Int64)) ∈ lw_all := lw_g (lw_at lw_m5 231 rfl) rfl
theorem q1319 : (Jvm.Cond.constantLong "CoverHouse$Reader" (358 : Nat) (29676314707714404 : Int64)) ∈ lw_all := lw_g (lw_at lw_m5 232 rfl) rfl
theorem q1320 : (Jvm.Cond.interfaceEntry "CoverHouse$Reader" (360 : Nat)) ∈ lw_tbl := lw_at lw_m5 233 rfl
theorem q1321 : (Jvm.Cond.methodLink "CoverHouse$Reader" (360 : Nat) ({ cls := "java/util/List", name := "set", desc := "(ILjava/lang/Object;)Ljava/lang/Object;" } : Jvm.MethodName)) ∈ lw_all := lw_g (lw_at lw_m5 234 rfl) rfl
theorem q1329 : (Jvm.Cond.interfaceEntry "CoverHouse$Reader" (364 : Nat)) ∈ lw_tbl := lw_at lw_m6 2 rfl
theorem q1330 : (Jvm.Cond.methodLink "CoverHouse$Reader" (364 : Nat) ({ cls := "java/util/List", name := "addAll", desc := "(Ljava/util/Collection;)Z" } : Jvm.MethodName)) ∈ lw_all := lw_g (lw_at lw_m6 3 rfl) rfl
theorem q1331 : (Jvm.Cond.methodLink "CoverHouse$Reader" (368 : Nat) ({ cls := "CoverHouse$Wording", name := "countNodes", desc := "()I" } : Jvm.MethodName)) ∈ lw_all := lw_g (lw_at lw_m6 4 rfl) rfl
theorem q1403 : (Jvm.Cond.instanceMethod ({ cls := "CoverHouse$Reader", name := "law", desc := "()I" } : Jvm.MethodName)) ∈ lw_all := lw_g (lw_at lw_m6 76 rfl) rfl
theorem q1404 : (Jvm.Cond.selects "CoverHouse$Reader" ({ cls := "CoverHouse$Reader", name := "law", desc := "()I" } : Jvm.MethodName) ({ cls := "CoverHouse$Reader", name := "law", desc := "()I" } : Jvm.MethodName)) ∈ lw_all := lw_g (lw_at lw_m6 77 rfl) rfl
theorem q1405 : (Jvm.Cond.code ({ cls := "CoverHouse$Reader", name := "law", desc := "()I" } : Jvm.MethodName) prog_18_method_34_code (2 : Nat) (Option.some Jvm.ClassFile.FieldType.int)) ∈ lw_all := lw_g (lw_at lw_m6 78 rfl) rfl
theorem q1406 : (Jvm.Cond.constantLong "CoverHouse$Reader" (371 : Nat) (107118487239027 : Int64)) ∈ lw_all := lw_g (lw_at lw_m6 79 rfl) rfl
theorem q1407 : (Jvm.Cond.constantLong "CoverHouse$Reader" (373 : Nat) (474148660594 : Int64)) ∈ lw_all := lw_g (lw_at lw_m6 80 rfl) rfl
theorem q1408 : (Jvm.Cond.constantLong "CoverHouse$Reader" (375 : Nat) (7168377 : Int64)) ∈ lw_all := lw_g (lw_at lw_m6 81 rfl) rfl
theorem q2697 : (Jvm.Cond.castable "CoverHouse$Reader" "java/lang/Object") ∈ lw_tbl := lw_at lw_m11 170 rfl
theorem in_X7 : ∀ w ∈ wsX70, w ∈ lw_all := lw_in wsX70 [755, 757, 759, 761, 763, 765, 767, 769, 771, 773, 775] (by decide +kernel) (by decide +kernel)
