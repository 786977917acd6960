/-! CoverHouse$Full -/
set_option maxRecDepth 100000
def RX1 : String := "CoverHouse$Full"
def TX1 : u_T := fun k => match k with
  | 0 => ("CoverHouse$Full", "values", "[I", true)
  | _ => ("CoverHouse$Full", "meanings", "[Z", true)
def tyX1 : Nat → FieldType := fun k => match k with
  | 0 => .array .int
  | _ => .array .boolean
abbrev wsX10 : List Cond := u_ws RX1 TX1 2
theorem nmX1 : ∀ a, a < 2 → ∀ b, b < 2 → a ≠ b → (TX1 a).2.1 ≠ (TX1 b).2.1 := by decide +kernel
theorem tyX1_ok : ∀ k, k < 2 → parseFieldDescriptor (TX1 k).2.2.1 = some (tyX1 k) := by decide +kernel
abbrev cX1_init : ByteArray := prog_8_method_1_code
def yX1_init : MethodName := ⟨RX1, "<init>", "()V"⟩
def dkwX1_init_0 : List UInt8 := [42, 183, 0, 1, 42, 16, 8, 188, 10, 181, 0, 7, 42, 16, 12, 188, 4, 181, 0, 13, 177]
abbrev dktX1_init_0 : List UInt8 := dkwX1_init_0 ++ []
theorem dksX1_init_0 : cX1_init.data.toList.drop 0 = dktX1_init_0 := by decide +kernel
theorem dX1_init_0 : decode cX1_init 0 = .ok (.aload_n 0, 1) := dk_42 (dk_at dksX1_init_0 0 rfl rfl)
theorem dX1_init_1 : decode cX1_init 1 = .ok (.invokespecial 1, 3) := dk_183 0 1 (dk_at dksX1_init_0 1 rfl rfl)
theorem dX1_init_4 : decode cX1_init 4 = .ok (.aload_n 0, 1) := dk_42 (dk_at dksX1_init_0 4 rfl rfl)
theorem dX1_init_5 : decode cX1_init 5 = .ok (.bipush 8, 2) := dk_16 8 (dk_at dksX1_init_0 5 rfl rfl)
theorem dX1_init_7 : decode cX1_init 7 = .ok (.newarray .int, 2) := dk_188_10 (dk_at dksX1_init_0 7 rfl rfl)
theorem dX1_init_9 : decode cX1_init 9 = .ok (.putfield 7, 3) := dk_181 0 7 (dk_at dksX1_init_0 9 rfl rfl)
theorem dX1_init_12 : decode cX1_init 12 = .ok (.aload_n 0, 1) := dk_42 (dk_at dksX1_init_0 12 rfl rfl)
theorem dX1_init_13 : decode cX1_init 13 = .ok (.bipush 12, 2) := dk_16 12 (dk_at dksX1_init_0 13 rfl rfl)
theorem dX1_init_15 : decode cX1_init 15 = .ok (.newarray .boolean, 2) := dk_188_4 (dk_at dksX1_init_0 15 rfl rfl)
theorem dX1_init_17 : decode cX1_init 17 = .ok (.putfield 13, 3) := dk_181 0 13 (dk_at dksX1_init_0 17 rfl rfl)
theorem dX1_init_20 : decode cX1_init 20 = .ok (.return_, 1) := dk_177 (dk_at dksX1_init_0 20 rfl rfl)
theorem q132 : (Jvm.Cond.initialized "CoverHouse$Full") ∈ lw_all := lw_g (lw_at lw_m1 5 rfl) rfl
theorem q237 : (Jvm.Cond.instantiable "CoverHouse$Full" (2 : Nat)) ∈ lw_all := lw_g (lw_at lw_m1 110 rfl) rfl
theorem q239 : (Jvm.Cond.instanceMethod ({ cls := "CoverHouse$Full", name := "<init>", desc := "()V" } : Jvm.MethodName)) ∈ lw_all := lw_g (lw_at lw_m1 112 rfl) rfl
theorem q240 : (Jvm.Cond.code ({ cls := "CoverHouse$Full", name := "<init>", desc := "()V" } : Jvm.MethodName) prog_8_method_1_code (1 : Nat) (Option.none : Option Jvm.ClassFile.FieldType)) ∈ lw_all := lw_g (lw_at lw_m1 113 rfl) rfl
theorem q241 : (Jvm.Cond.methodLink "CoverHouse$Full" (1 : Nat) ({ cls := "java/lang/Object", name := "<init>", desc := "()V" } : Jvm.MethodName)) ∈ lw_all := lw_g (lw_at lw_m1 114 rfl) rfl
theorem q242 : (Jvm.Cond.fieldLink "CoverHouse$Full" (7 : Nat) "CoverHouse$Full" "values" "[I") ∈ lw_all := lw_g (lw_at lw_m1 115 rfl) rfl
theorem q247 : (Jvm.Cond.fieldLink "CoverHouse$Full" (13 : Nat) "CoverHouse$Full" "meanings" "[Z") ∈ lw_all := lw_g (lw_at lw_m1 120 rfl) rfl
theorem q250 : (Jvm.Cond.laysFinal "CoverHouse$Full" "CoverHouse$Full" "values" "[I") ∈ lw_all := lw_g (lw_at lw_m1 123 rfl) rfl
theorem q251 : (Jvm.Cond.soleField "CoverHouse$Full" "values") ∈ lw_all := lw_g (lw_at lw_m1 124 rfl) rfl
theorem q252 : (Jvm.Cond.laysFinal "CoverHouse$Full" "CoverHouse$Full" "meanings" "[Z") ∈ lw_all := lw_g (lw_at lw_m1 125 rfl) rfl
theorem q253 : (Jvm.Cond.soleField "CoverHouse$Full" "meanings") ∈ lw_all := lw_g (lw_at lw_m1 126 rfl) rfl
theorem q254 : (Jvm.Cond.superclass "CoverHouse$Full" "java/lang/Object") ∈ lw_all := lw_g (lw_at lw_m1 127 rfl) rfl
theorem q364 : (Jvm.Cond.selects "CoverHouse$Full" ({ cls := "java/lang/Object", name := "getClass", desc := "()Ljava/lang/Class;" } : Jvm.MethodName) ({ cls := "java/lang/Object", name := "getClass", desc := "()Ljava/lang/Class;" } : Jvm.MethodName)) ∈ lw_all := lw_g (lw_at lw_m1 237 rfl) rfl
theorem q2691 : (Jvm.Cond.castable "CoverHouse$Full" "java/lang/Object") ∈ lw_tbl := lw_at lw_m11 164 rfl
theorem in_X1 : ∀ w ∈ wsX10, w ∈ lw_all := lw_in wsX10 [250, 252] (by decide +kernel) (by decide +kernel)

/-! CoverHouse$Ways -/
set_option maxRecDepth 100000
def RX2 : String := "CoverHouse$Ways"
def TX2 : u_T := fun k => match k with
  | 0 => ("CoverHouse$Ways", "of", "LCoverHouse$Wording;", false)
  | 1 => ("CoverHouse$Ways", "cells", "[I", true)
  | 2 => ("CoverHouse$Ways", "known", "I", false)
  | 3 => ("CoverHouse$Ways", "units", "[I", true)
  | 4 => ("CoverHouse$Ways", "counts", "[I", true)
  | 5 => ("CoverHouse$Ways", "met", "[B", true)
  | _ => ("CoverHouse$Ways", "this$0", "LCoverHouse;", true)
def tyX2 : Nat → FieldType := fun k => match k with
  | 0 => .object "CoverHouse$Wording"
  | 1 => .array .int
  | 2 => .int
  | 3 => .array .int
  | 4 => .array .int
  | 5 => .array .byte
  | _ => .object "CoverHouse"
abbrev wsX20 : List Cond := u_ws RX2 TX2 7
theorem nmX2 : ∀ a, a < 7 → ∀ b, b < 7 → a ≠ b → (TX2 a).2.1 ≠ (TX2 b).2.1 := by decide +kernel
theorem tyX2_ok : ∀ k, k < 7 → parseFieldDescriptor (TX2 k).2.2.1 = some (tyX2 k) := by decide +kernel
abbrev cX2_init : ByteArray := prog_27_method_1_code
def yX2_init : MethodName := ⟨RX2, "<init>", "(LCoverHouse;)V"⟩
def dkwX2_init_1 : List UInt8 := [181, 0, 19, 42, 5, 188, 10, 181, 0, 22, 42, 17, 7, 208, 188, 8, 181, 0, 25, 177]
abbrev dktX2_init_1 : List UInt8 := dkwX2_init_1 ++ []
def dkwX2_init_0 : List UInt8 := [42, 43, 181, 0, 3, 42, 183, 0, 9, 42, 16, 8, 188, 10, 181, 0, 15, 42, 16, 8, 188, 10]
abbrev dktX2_init_0 : List UInt8 := dkwX2_init_0 ++ dktX2_init_1
theorem dksX2_init_0 : cX2_init.data.toList.drop 0 = dktX2_init_0 := by decide +kernel
theorem dksX2_init_1 : cX2_init.data.toList.drop 22 = dktX2_init_1 := dk_seg dksX2_init_0 22 rfl rfl
theorem dX2_init_0 : decode cX2_init 0 = .ok (.aload_n 0, 1) := dk_42 (dk_at dksX2_init_0 0 rfl rfl)
theorem dX2_init_1 : decode cX2_init 1 = .ok (.aload_n 1, 1) := dk_43 (dk_at dksX2_init_0 1 rfl rfl)
theorem dX2_init_2 : decode cX2_init 2 = .ok (.putfield 3, 3) := dk_181 0 3 (dk_at dksX2_init_0 2 rfl rfl)
theorem dX2_init_5 : decode cX2_init 5 = .ok (.aload_n 0, 1) := dk_42 (dk_at dksX2_init_0 5 rfl rfl)
theorem dX2_init_6 : decode cX2_init 6 = .ok (.invokespecial 9, 3) := dk_183 0 9 (dk_at dksX2_init_0 6 rfl rfl)
theorem dX2_init_9 : decode cX2_init 9 = .ok (.aload_n 0, 1) := dk_42 (dk_at dksX2_init_0 9 rfl rfl)
theorem dX2_init_10 : decode cX2_init 10 = .ok (.bipush 8, 2) := dk_16 8 (dk_at dksX2_init_0 10 rfl rfl)
theorem dX2_init_12 : decode cX2_init 12 = .ok (.newarray .int, 2) := dk_188_10 (dk_at dksX2_init_0 12 rfl rfl)
theorem dX2_init_14 : decode cX2_init 14 = .ok (.putfield 15, 3) := dk_181 0 15 (dk_at dksX2_init_0 14 rfl rfl)
theorem dX2_init_17 : decode cX2_init 17 = .ok (.aload_n 0, 1) := dk_42 (dk_at dksX2_init_0 17 rfl rfl)
theorem dX2_init_18 : decode cX2_init 18 = .ok (.bipush 8, 2) := dk_16 8 (dk_at dksX2_init_0 18 rfl rfl)
theorem dX2_init_20 : decode cX2_init 20 = .ok (.newarray .int, 2) := dk_188_10 (dk_at dksX2_init_0 20 rfl rfl)
theorem dX2_init_22 : decode cX2_init 22 = .ok (.putfield 19, 3) := dk_181 0 19 (dk_at dksX2_init_1 0 rfl rfl)
theorem dX2_init_25 : decode cX2_init 25 = .ok (.aload_n 0, 1) := dk_42 (dk_at dksX2_init_1 3 rfl rfl)
theorem dX2_init_26 : decode cX2_init 26 = .ok (.iconst 2, 1) := dk_5 (dk_at dksX2_init_1 4 rfl rfl)
theorem dX2_init_27 : decode cX2_init 27 = .ok (.newarray .int, 2) := dk_188_10 (dk_at dksX2_init_1 5 rfl rfl)
theorem dX2_init_29 : decode cX2_init 29 = .ok (.putfield 22, 3) := dk_181 0 22 (dk_at dksX2_init_1 7 rfl rfl)
theorem dX2_init_32 : decode cX2_init 32 = .ok (.aload_n 0, 1) := dk_42 (dk_at dksX2_init_1 10 rfl rfl)
theorem dX2_init_33 : decode cX2_init 33 = .ok (.sipush 2000, 3) := dk_17 7 208 (dk_at dksX2_init_1 11 rfl rfl)
theorem dX2_init_36 : decode cX2_init 36 = .ok (.newarray .byte, 2) := dk_188_8 (dk_at dksX2_init_1 14 rfl rfl)
theorem dX2_init_38 : decode cX2_init 38 = .ok (.putfield 25, 3) := dk_181 0 25 (dk_at dksX2_init_1 16 rfl rfl)
theorem dX2_init_41 : decode cX2_init 41 = .ok (.return_, 1) := dk_177 (dk_at dksX2_init_1 19 rfl rfl)
abbrev cX2_set : ByteArray := prog_27_method_2_code
def yX2_set : MethodName := ⟨RX2, "set", "(LCoverHouse$Wording;LCoverHouse$Event;I)V"⟩
def dkwX2_set_6 : List UInt8 := [132, 5, 255, 167, 255, 139, 177]
abbrev dktX2_set_6 : List UInt8 := dkwX2_set_6 ++ []
def dkwX2_set_5 : List UInt8 := [21, 4, 43, 180, 0, 62, 21, 5, 185, 0, 52, 2, 0, 192, 0, 65, 180, 0, 71, 104, 54, 4]
abbrev dktX2_set_5 : List UInt8 := dkwX2_set_5 ++ dktX2_set_6
def dkwX2_set_4 : List UInt8 := [156, 0, 7, 3, 167, 0, 7, 4, 21, 5, 120, 128, 181, 0, 33, 42, 180, 0, 19, 21, 5, 21, 4, 79]
abbrev dktX2_set_4 : List UInt8 := dkwX2_set_4 ++ dktX2_set_5
def dkwX2_set_3 : List UInt8 := [21, 5, 185, 0, 52, 2, 0, 192, 0, 65, 21, 6, 182, 0, 67, 79, 42, 89, 180, 0, 33, 21, 6]
abbrev dktX2_set_3 : List UInt8 := dkwX2_set_3 ++ dktX2_set_4
def dkwX2_set_2 : List UInt8 := [182, 0, 58, 54, 6, 42, 180, 0, 15, 21, 5, 21, 6, 156, 0, 7, 2, 167, 0, 22, 43, 180, 0, 62]
abbrev dktX2_set_2 : List UInt8 := dkwX2_set_2 ++ dktX2_set_3
def dkwX2_set_1 : List UInt8 := [54, 5, 21, 5, 155, 0, 118, 44, 180, 0, 49, 21, 5, 185, 0, 52, 2, 0, 192, 0, 56, 29, 2]
abbrev dktX2_set_1 : List UInt8 := dkwX2_set_1 ++ dktX2_set_2
def dkwX2_set_0 : List UInt8 := [42, 43, 181, 0, 29, 42, 3, 181, 0, 33, 4, 54, 4, 43, 180, 0, 37, 185, 0, 43, 1, 0, 4, 100]
abbrev dktX2_set_0 : List UInt8 := dkwX2_set_0 ++ dktX2_set_1
theorem dksX2_set_0 : cX2_set.data.toList.drop 0 = dktX2_set_0 := by decide +kernel
theorem dksX2_set_1 : cX2_set.data.toList.drop 24 = dktX2_set_1 := dk_seg dksX2_set_0 24 rfl rfl
theorem dksX2_set_2 : cX2_set.data.toList.drop 47 = dktX2_set_2 := dk_seg dksX2_set_1 23 rfl rfl
theorem dksX2_set_3 : cX2_set.data.toList.drop 71 = dktX2_set_3 := dk_seg dksX2_set_2 24 rfl rfl
theorem dksX2_set_4 : cX2_set.data.toList.drop 94 = dktX2_set_4 := dk_seg dksX2_set_3 23 rfl rfl
theorem dksX2_set_5 : cX2_set.data.toList.drop 118 = dktX2_set_5 := dk_seg dksX2_set_4 24 rfl rfl
theorem dksX2_set_6 : cX2_set.data.toList.drop 140 = dktX2_set_6 := dk_seg dksX2_set_5 22 rfl rfl
theorem dX2_set_0 : decode cX2_set 0 = .ok (.aload_n 0, 1) := dk_42 (dk_at dksX2_set_0 0 rfl rfl)
theorem dX2_set_1 : decode cX2_set 1 = .ok (.aload_n 1, 1) := dk_43 (dk_at dksX2_set_0 1 rfl rfl)
theorem dX2_set_2 : decode cX2_set 2 = .ok (.putfield 29, 3) := dk_181 0 29 (dk_at dksX2_set_0 2 rfl rfl)
theorem dX2_set_5 : decode cX2_set 5 = .ok (.aload_n 0, 1) := dk_42 (dk_at dksX2_set_0 5 rfl rfl)
theorem dX2_set_6 : decode cX2_set 6 = .ok (.iconst 0, 1) := dk_3 (dk_at dksX2_set_0 6 rfl rfl)
theorem dX2_set_7 : decode cX2_set 7 = .ok (.putfield 33, 3) := dk_181 0 33 (dk_at dksX2_set_0 7 rfl rfl)
theorem dX2_set_10 : decode cX2_set 10 = .ok (.iconst 1, 1) := dk_4 (dk_at dksX2_set_0 10 rfl rfl)
theorem dX2_set_11 : decode cX2_set 11 = .ok (.istore 4, 2) := dk_54 4 (dk_at dksX2_set_0 11 rfl rfl)
theorem dX2_set_13 : decode cX2_set 13 = .ok (.aload_n 1, 1) := dk_43 (dk_at dksX2_set_0 13 rfl rfl)
theorem dX2_set_14 : decode cX2_set 14 = .ok (.getfield 37, 3) := dk_180 0 37 (dk_at dksX2_set_0 14 rfl rfl)
theorem dX2_set_17 : decode cX2_set 17 = .ok (.invokeinterface 43 1, 5) := by decide +kernel
theorem dX2_set_22 : decode cX2_set 22 = .ok (.iconst 1, 1) := dk_4 (dk_at dksX2_set_0 22 rfl rfl)
theorem dX2_set_23 : decode cX2_set 23 = .ok (.isub, 1) := dk_100 (dk_at dksX2_set_0 23 rfl rfl)
theorem dX2_set_24 : decode cX2_set 24 = .ok (.istore 5, 2) := dk_54 5 (dk_at dksX2_set_1 0 rfl rfl)
theorem dX2_set_26 : decode cX2_set 26 = .ok (.iload 5, 2) := dk_21 5 (dk_at dksX2_set_1 2 rfl rfl)
theorem dX2_set_28 : decode cX2_set 28 = .ok (.ifCond .lt 118, 3) := dk_155 0 118 (dk_at dksX2_set_1 4 rfl rfl)
theorem dX2_set_31 : decode cX2_set 31 = .ok (.aload_n 2, 1) := dk_44 (dk_at dksX2_set_1 7 rfl rfl)
theorem dX2_set_32 : decode cX2_set 32 = .ok (.getfield 49, 3) := dk_180 0 49 (dk_at dksX2_set_1 8 rfl rfl)
theorem dX2_set_35 : decode cX2_set 35 = .ok (.iload 5, 2) := dk_21 5 (dk_at dksX2_set_1 11 rfl rfl)
theorem dX2_set_37 : decode cX2_set 37 = .ok (.invokeinterface 52 2, 5) := by decide +kernel
theorem dX2_set_42 : decode cX2_set 42 = .ok (.checkcast 56, 3) := dk_192 0 56 (dk_at dksX2_set_1 18 rfl rfl)
theorem dX2_set_45 : decode cX2_set 45 = .ok (.iload_n 3, 1) := dk_29 (dk_at dksX2_set_1 21 rfl rfl)
theorem dX2_set_46 : decode cX2_set 46 = .ok (.iconst (-1), 1) := dk_2 (dk_at dksX2_set_1 22 rfl rfl)
theorem dX2_set_47 : decode cX2_set 47 = .ok (.invokevirtual 58, 3) := dk_182 0 58 (dk_at dksX2_set_2 0 rfl rfl)
theorem dX2_set_50 : decode cX2_set 50 = .ok (.istore 6, 2) := dk_54 6 (dk_at dksX2_set_2 3 rfl rfl)
theorem dX2_set_52 : decode cX2_set 52 = .ok (.aload_n 0, 1) := dk_42 (dk_at dksX2_set_2 5 rfl rfl)
theorem dX2_set_53 : decode cX2_set 53 = .ok (.getfield 15, 3) := dk_180 0 15 (dk_at dksX2_set_2 6 rfl rfl)
theorem dX2_set_56 : decode cX2_set 56 = .ok (.iload 5, 2) := dk_21 5 (dk_at dksX2_set_2 9 rfl rfl)
theorem dX2_set_58 : decode cX2_set 58 = .ok (.iload 6, 2) := dk_21 6 (dk_at dksX2_set_2 11 rfl rfl)
theorem dX2_set_60 : decode cX2_set 60 = .ok (.ifCond .ge 7, 3) := dk_156 0 7 (dk_at dksX2_set_2 13 rfl rfl)
theorem dX2_set_63 : decode cX2_set 63 = .ok (.iconst (-1), 1) := dk_2 (dk_at dksX2_set_2 16 rfl rfl)
theorem dX2_set_64 : decode cX2_set 64 = .ok (.goto 22, 3) := dk_167 0 22 (dk_at dksX2_set_2 17 rfl rfl)
theorem dX2_set_67 : decode cX2_set 67 = .ok (.aload_n 1, 1) := dk_43 (dk_at dksX2_set_2 20 rfl rfl)
theorem dX2_set_68 : decode cX2_set 68 = .ok (.getfield 62, 3) := dk_180 0 62 (dk_at dksX2_set_2 21 rfl rfl)
theorem dX2_set_71 : decode cX2_set 71 = .ok (.iload 5, 2) := dk_21 5 (dk_at dksX2_set_3 0 rfl rfl)
theorem dX2_set_73 : decode cX2_set 73 = .ok (.invokeinterface 52 2, 5) := by decide +kernel
theorem dX2_set_78 : decode cX2_set 78 = .ok (.checkcast 65, 3) := dk_192 0 65 (dk_at dksX2_set_3 7 rfl rfl)
theorem dX2_set_81 : decode cX2_set 81 = .ok (.iload 6, 2) := dk_21 6 (dk_at dksX2_set_3 10 rfl rfl)
theorem dX2_set_83 : decode cX2_set 83 = .ok (.invokevirtual 67, 3) := dk_182 0 67 (dk_at dksX2_set_3 12 rfl rfl)
theorem dX2_set_86 : decode cX2_set 86 = .ok (.iastore, 1) := dk_79 (dk_at dksX2_set_3 15 rfl rfl)
theorem dX2_set_87 : decode cX2_set 87 = .ok (.aload_n 0, 1) := dk_42 (dk_at dksX2_set_3 16 rfl rfl)
theorem dX2_set_88 : decode cX2_set 88 = .ok (.dup, 1) := dk_89 (dk_at dksX2_set_3 17 rfl rfl)
theorem dX2_set_89 : decode cX2_set 89 = .ok (.getfield 33, 3) := dk_180 0 33 (dk_at dksX2_set_3 18 rfl rfl)
theorem dX2_set_92 : decode cX2_set 92 = .ok (.iload 6, 2) := dk_21 6 (dk_at dksX2_set_3 21 rfl rfl)
theorem dX2_set_94 : decode cX2_set 94 = .ok (.ifCond .ge 7, 3) := dk_156 0 7 (dk_at dksX2_set_4 0 rfl rfl)
theorem dX2_set_97 : decode cX2_set 97 = .ok (.iconst 0, 1) := dk_3 (dk_at dksX2_set_4 3 rfl rfl)
theorem dX2_set_98 : decode cX2_set 98 = .ok (.goto 7, 3) := dk_167 0 7 (dk_at dksX2_set_4 4 rfl rfl)
theorem dX2_set_101 : decode cX2_set 101 = .ok (.iconst 1, 1) := dk_4 (dk_at dksX2_set_4 7 rfl rfl)
theorem dX2_set_102 : decode cX2_set 102 = .ok (.iload 5, 2) := dk_21 5 (dk_at dksX2_set_4 8 rfl rfl)
theorem dX2_set_104 : decode cX2_set 104 = .ok (.ishl, 1) := dk_120 (dk_at dksX2_set_4 10 rfl rfl)
theorem dX2_set_105 : decode cX2_set 105 = .ok (.ior, 1) := dk_128 (dk_at dksX2_set_4 11 rfl rfl)
theorem dX2_set_106 : decode cX2_set 106 = .ok (.putfield 33, 3) := dk_181 0 33 (dk_at dksX2_set_4 12 rfl rfl)
theorem dX2_set_109 : decode cX2_set 109 = .ok (.aload_n 0, 1) := dk_42 (dk_at dksX2_set_4 15 rfl rfl)
theorem dX2_set_110 : decode cX2_set 110 = .ok (.getfield 19, 3) := dk_180 0 19 (dk_at dksX2_set_4 16 rfl rfl)
theorem dX2_set_113 : decode cX2_set 113 = .ok (.iload 5, 2) := dk_21 5 (dk_at dksX2_set_4 19 rfl rfl)
theorem dX2_set_115 : decode cX2_set 115 = .ok (.iload 4, 2) := dk_21 4 (dk_at dksX2_set_4 21 rfl rfl)
theorem dX2_set_117 : decode cX2_set 117 = .ok (.iastore, 1) := dk_79 (dk_at dksX2_set_4 23 rfl rfl)
theorem dX2_set_118 : decode cX2_set 118 = .ok (.iload 4, 2) := dk_21 4 (dk_at dksX2_set_5 0 rfl rfl)
theorem dX2_set_120 : decode cX2_set 120 = .ok (.aload_n 1, 1) := dk_43 (dk_at dksX2_set_5 2 rfl rfl)
theorem dX2_set_121 : decode cX2_set 121 = .ok (.getfield 62, 3) := dk_180 0 62 (dk_at dksX2_set_5 3 rfl rfl)
theorem dX2_set_124 : decode cX2_set 124 = .ok (.iload 5, 2) := dk_21 5 (dk_at dksX2_set_5 6 rfl rfl)
theorem dX2_set_126 : decode cX2_set 126 = .ok (.invokeinterface 52 2, 5) := by decide +kernel
theorem dX2_set_131 : decode cX2_set 131 = .ok (.checkcast 65, 3) := dk_192 0 65 (dk_at dksX2_set_5 13 rfl rfl)
theorem dX2_set_134 : decode cX2_set 134 = .ok (.getfield 71, 3) := dk_180 0 71 (dk_at dksX2_set_5 16 rfl rfl)
theorem dX2_set_137 : decode cX2_set 137 = .ok (.imul, 1) := dk_104 (dk_at dksX2_set_5 19 rfl rfl)
theorem dX2_set_138 : decode cX2_set 138 = .ok (.istore 4, 2) := dk_54 4 (dk_at dksX2_set_5 20 rfl rfl)
theorem dX2_set_140 : decode cX2_set 140 = .ok (.iinc 5 (-1), 3) := dk_132 5 255 (dk_at dksX2_set_6 0 rfl rfl)
theorem dX2_set_143 : decode cX2_set 143 = .ok (.goto (-117), 3) := dk_167 255 139 (dk_at dksX2_set_6 3 rfl rfl)
theorem dX2_set_146 : decode cX2_set 146 = .ok (.return_, 1) := dk_177 (dk_at dksX2_set_6 6 rfl rfl)
abbrev cX2_answerBy : ByteArray := prog_27_method_6_code
def yX2_answerBy : MethodName := ⟨RX2, "answerBy", "(I)I"⟩
def dkwX2_answerBy_0 : List UInt8 := [42, 27, 182, 0, 82, 42, 182, 0, 86, 172]
abbrev dktX2_answerBy_0 : List UInt8 := dkwX2_answerBy_0 ++ []
theorem dksX2_answerBy_0 : cX2_answerBy.data.toList.drop 0 = dktX2_answerBy_0 := by decide +kernel
theorem dX2_answerBy_0 : decode cX2_answerBy 0 = .ok (.aload_n 0, 1) := dk_42 (dk_at dksX2_answerBy_0 0 rfl rfl)
theorem dX2_answerBy_1 : decode cX2_answerBy 1 = .ok (.iload_n 1, 1) := dk_27 (dk_at dksX2_answerBy_0 1 rfl rfl)
theorem dX2_answerBy_2 : decode cX2_answerBy 2 = .ok (.invokevirtual 82, 3) := dk_182 0 82 (dk_at dksX2_answerBy_0 2 rfl rfl)
theorem dX2_answerBy_5 : decode cX2_answerBy 5 = .ok (.aload_n 0, 1) := dk_42 (dk_at dksX2_answerBy_0 5 rfl rfl)
theorem dX2_answerBy_6 : decode cX2_answerBy 6 = .ok (.invokevirtual 86, 3) := dk_182 0 86 (dk_at dksX2_answerBy_0 6 rfl rfl)
theorem dX2_answerBy_9 : decode cX2_answerBy 9 = .ok (.ireturn, 1) := dk_172 (dk_at dksX2_answerBy_0 9 rfl rfl)
abbrev cX2_count : ByteArray := prog_27_method_4_code
def yX2_count : MethodName := ⟨RX2, "count", "(I)V"⟩
def dkwX2_count_2 : List UInt8 := [51, 92, 46, 4, 96, 79, 132, 2, 1, 167, 255, 215, 177]
abbrev dktX2_count_2 : List UInt8 := dkwX2_count_2 ++ []
def dkwX2_count_1 : List UInt8 := [162, 0, 36, 42, 28, 27, 182, 0, 75, 153, 0, 21, 42, 180, 0, 22, 42, 180, 0, 29, 180, 0, 79, 28]
abbrev dktX2_count_1 : List UInt8 := dkwX2_count_1 ++ dktX2_count_2
def dkwX2_count_0 : List UInt8 := [42, 180, 0, 22, 3, 3, 79, 42, 180, 0, 22, 4, 3, 79, 3, 61, 28, 42, 180, 0, 29, 180, 0, 73]
abbrev dktX2_count_0 : List UInt8 := dkwX2_count_0 ++ dktX2_count_1
theorem dksX2_count_0 : cX2_count.data.toList.drop 0 = dktX2_count_0 := by decide +kernel
theorem dksX2_count_1 : cX2_count.data.toList.drop 24 = dktX2_count_1 := dk_seg dksX2_count_0 24 rfl rfl
theorem dksX2_count_2 : cX2_count.data.toList.drop 48 = dktX2_count_2 := dk_seg dksX2_count_1 24 rfl rfl
theorem dX2_count_0 : decode cX2_count 0 = .ok (.aload_n 0, 1) := dk_42 (dk_at dksX2_count_0 0 rfl rfl)
theorem dX2_count_1 : decode cX2_count 1 = .ok (.getfield 22, 3) := dk_180 0 22 (dk_at dksX2_count_0 1 rfl rfl)
theorem dX2_count_4 : decode cX2_count 4 = .ok (.iconst 0, 1) := dk_3 (dk_at dksX2_count_0 4 rfl rfl)
theorem dX2_count_5 : decode cX2_count 5 = .ok (.iconst 0, 1) := dk_3 (dk_at dksX2_count_0 5 rfl rfl)
theorem dX2_count_6 : decode cX2_count 6 = .ok (.iastore, 1) := dk_79 (dk_at dksX2_count_0 6 rfl rfl)
theorem dX2_count_7 : decode cX2_count 7 = .ok (.aload_n 0, 1) := dk_42 (dk_at dksX2_count_0 7 rfl rfl)
theorem dX2_count_8 : decode cX2_count 8 = .ok (.getfield 22, 3) := dk_180 0 22 (dk_at dksX2_count_0 8 rfl rfl)
theorem dX2_count_11 : decode cX2_count 11 = .ok (.iconst 1, 1) := dk_4 (dk_at dksX2_count_0 11 rfl rfl)
theorem dX2_count_12 : decode cX2_count 12 = .ok (.iconst 0, 1) := dk_3 (dk_at dksX2_count_0 12 rfl rfl)
theorem dX2_count_13 : decode cX2_count 13 = .ok (.iastore, 1) := dk_79 (dk_at dksX2_count_0 13 rfl rfl)
theorem dX2_count_14 : decode cX2_count 14 = .ok (.iconst 0, 1) := dk_3 (dk_at dksX2_count_0 14 rfl rfl)
theorem dX2_count_15 : decode cX2_count 15 = .ok (.istore_n 2, 1) := dk_61 (dk_at dksX2_count_0 15 rfl rfl)
theorem dX2_count_16 : decode cX2_count 16 = .ok (.iload_n 2, 1) := dk_28 (dk_at dksX2_count_0 16 rfl rfl)
theorem dX2_count_17 : decode cX2_count 17 = .ok (.aload_n 0, 1) := dk_42 (dk_at dksX2_count_0 17 rfl rfl)
theorem dX2_count_18 : decode cX2_count 18 = .ok (.getfield 29, 3) := dk_180 0 29 (dk_at dksX2_count_0 18 rfl rfl)
theorem dX2_count_21 : decode cX2_count 21 = .ok (.getfield 73, 3) := dk_180 0 73 (dk_at dksX2_count_0 21 rfl rfl)
theorem dX2_count_24 : decode cX2_count 24 = .ok (.if_icmp .ge 36, 3) := dk_162 0 36 (dk_at dksX2_count_1 0 rfl rfl)
theorem dX2_count_27 : decode cX2_count 27 = .ok (.aload_n 0, 1) := dk_42 (dk_at dksX2_count_1 3 rfl rfl)
theorem dX2_count_28 : decode cX2_count 28 = .ok (.iload_n 2, 1) := dk_28 (dk_at dksX2_count_1 4 rfl rfl)
theorem dX2_count_29 : decode cX2_count 29 = .ok (.iload_n 1, 1) := dk_27 (dk_at dksX2_count_1 5 rfl rfl)
theorem dX2_count_30 : decode cX2_count 30 = .ok (.invokevirtual 75, 3) := dk_182 0 75 (dk_at dksX2_count_1 6 rfl rfl)
theorem dX2_count_33 : decode cX2_count 33 = .ok (.ifCond .eq 21, 3) := dk_153 0 21 (dk_at dksX2_count_1 9 rfl rfl)
theorem dX2_count_36 : decode cX2_count 36 = .ok (.aload_n 0, 1) := dk_42 (dk_at dksX2_count_1 12 rfl rfl)
theorem dX2_count_37 : decode cX2_count 37 = .ok (.getfield 22, 3) := dk_180 0 22 (dk_at dksX2_count_1 13 rfl rfl)
theorem dX2_count_40 : decode cX2_count 40 = .ok (.aload_n 0, 1) := dk_42 (dk_at dksX2_count_1 16 rfl rfl)
theorem dX2_count_41 : decode cX2_count 41 = .ok (.getfield 29, 3) := dk_180 0 29 (dk_at dksX2_count_1 17 rfl rfl)
theorem dX2_count_44 : decode cX2_count 44 = .ok (.getfield 79, 3) := dk_180 0 79 (dk_at dksX2_count_1 20 rfl rfl)
theorem dX2_count_47 : decode cX2_count 47 = .ok (.iload_n 2, 1) := dk_28 (dk_at dksX2_count_1 23 rfl rfl)
theorem dX2_count_48 : decode cX2_count 48 = .ok (.baload, 1) := dk_51 (dk_at dksX2_count_2 0 rfl rfl)
theorem dX2_count_49 : decode cX2_count 49 = .ok (.dup2, 1) := dk_92 (dk_at dksX2_count_2 1 rfl rfl)
theorem dX2_count_50 : decode cX2_count 50 = .ok (.iaload, 1) := dk_46 (dk_at dksX2_count_2 2 rfl rfl)
theorem dX2_count_51 : decode cX2_count 51 = .ok (.iconst 1, 1) := dk_4 (dk_at dksX2_count_2 3 rfl rfl)
theorem dX2_count_52 : decode cX2_count 52 = .ok (.iadd, 1) := dk_96 (dk_at dksX2_count_2 4 rfl rfl)
theorem dX2_count_53 : decode cX2_count 53 = .ok (.iastore, 1) := dk_79 (dk_at dksX2_count_2 5 rfl rfl)
theorem dX2_count_54 : decode cX2_count 54 = .ok (.iinc 2 1, 3) := dk_132 2 1 (dk_at dksX2_count_2 6 rfl rfl)
theorem dX2_count_57 : decode cX2_count 57 = .ok (.goto (-41), 3) := dk_167 255 215 (dk_at dksX2_count_2 9 rfl rfl)
theorem dX2_count_60 : decode cX2_count 60 = .ok (.return_, 1) := dk_177 (dk_at dksX2_count_2 12 rfl rfl)
abbrev cX2_isOne : ByteArray := prog_27_method_3_code
def yX2_isOne : MethodName := ⟨RX2, "isOne", "(II)Z"⟩
def dkwX2_isOne_3 : List UInt8 := [4, 172]
abbrev dktX2_isOne_3 : List UInt8 := dkwX2_isOne_3 ++ []
def dkwX2_isOne_2 : List UInt8 := [192, 0, 65, 180, 0, 71, 112, 42, 180, 0, 15, 29, 46, 159, 0, 5, 3, 172, 132, 3, 1, 167, 255, 189]
abbrev dktX2_isOne_2 : List UInt8 := dkwX2_isOne_2 ++ dktX2_isOne_3
def dkwX2_isOne_1 : List UInt8 := [160, 0, 42, 27, 42, 180, 0, 19, 29, 46, 108, 42, 180, 0, 29, 180, 0, 62, 29, 185, 0, 52, 2, 0]
abbrev dktX2_isOne_1 : List UInt8 := dkwX2_isOne_1 ++ dktX2_isOne_2
def dkwX2_isOne_0 : List UInt8 := [3, 62, 29, 42, 180, 0, 29, 180, 0, 37, 185, 0, 43, 1, 0, 162, 0, 57, 28, 29, 122, 4, 126, 4]
abbrev dktX2_isOne_0 : List UInt8 := dkwX2_isOne_0 ++ dktX2_isOne_1
theorem dksX2_isOne_0 : cX2_isOne.data.toList.drop 0 = dktX2_isOne_0 := by decide +kernel
theorem dksX2_isOne_1 : cX2_isOne.data.toList.drop 24 = dktX2_isOne_1 := dk_seg dksX2_isOne_0 24 rfl rfl
theorem dksX2_isOne_2 : cX2_isOne.data.toList.drop 48 = dktX2_isOne_2 := dk_seg dksX2_isOne_1 24 rfl rfl
theorem dksX2_isOne_3 : cX2_isOne.data.toList.drop 72 = dktX2_isOne_3 := dk_seg dksX2_isOne_2 24 rfl rfl
theorem dX2_isOne_0 : decode cX2_isOne 0 = .ok (.iconst 0, 1) := dk_3 (dk_at dksX2_isOne_0 0 rfl rfl)
theorem dX2_isOne_1 : decode cX2_isOne 1 = .ok (.istore_n 3, 1) := dk_62 (dk_at dksX2_isOne_0 1 rfl rfl)
theorem dX2_isOne_2 : decode cX2_isOne 2 = .ok (.iload_n 3, 1) := dk_29 (dk_at dksX2_isOne_0 2 rfl rfl)
theorem dX2_isOne_3 : decode cX2_isOne 3 = .ok (.aload_n 0, 1) := dk_42 (dk_at dksX2_isOne_0 3 rfl rfl)
theorem dX2_isOne_4 : decode cX2_isOne 4 = .ok (.getfield 29, 3) := dk_180 0 29 (dk_at dksX2_isOne_0 4 rfl rfl)
theorem dX2_isOne_7 : decode cX2_isOne 7 = .ok (.getfield 37, 3) := dk_180 0 37 (dk_at dksX2_isOne_0 7 rfl rfl)
theorem dX2_isOne_10 : decode cX2_isOne 10 = .ok (.invokeinterface 43 1, 5) := by decide +kernel
theorem dX2_isOne_15 : decode cX2_isOne 15 = .ok (.if_icmp .ge 57, 3) := dk_162 0 57 (dk_at dksX2_isOne_0 15 rfl rfl)
theorem dX2_isOne_18 : decode cX2_isOne 18 = .ok (.iload_n 2, 1) := dk_28 (dk_at dksX2_isOne_0 18 rfl rfl)
theorem dX2_isOne_19 : decode cX2_isOne 19 = .ok (.iload_n 3, 1) := dk_29 (dk_at dksX2_isOne_0 19 rfl rfl)
theorem dX2_isOne_20 : decode cX2_isOne 20 = .ok (.ishr, 1) := dk_122 (dk_at dksX2_isOne_0 20 rfl rfl)
theorem dX2_isOne_21 : decode cX2_isOne 21 = .ok (.iconst 1, 1) := dk_4 (dk_at dksX2_isOne_0 21 rfl rfl)
theorem dX2_isOne_22 : decode cX2_isOne 22 = .ok (.iand, 1) := dk_126 (dk_at dksX2_isOne_0 22 rfl rfl)
theorem dX2_isOne_23 : decode cX2_isOne 23 = .ok (.iconst 1, 1) := dk_4 (dk_at dksX2_isOne_0 23 rfl rfl)
theorem dX2_isOne_24 : decode cX2_isOne 24 = .ok (.if_icmp .ne 42, 3) := dk_160 0 42 (dk_at dksX2_isOne_1 0 rfl rfl)
theorem dX2_isOne_27 : decode cX2_isOne 27 = .ok (.iload_n 1, 1) := dk_27 (dk_at dksX2_isOne_1 3 rfl rfl)
theorem dX2_isOne_28 : decode cX2_isOne 28 = .ok (.aload_n 0, 1) := dk_42 (dk_at dksX2_isOne_1 4 rfl rfl)
theorem dX2_isOne_29 : decode cX2_isOne 29 = .ok (.getfield 19, 3) := dk_180 0 19 (dk_at dksX2_isOne_1 5 rfl rfl)
theorem dX2_isOne_32 : decode cX2_isOne 32 = .ok (.iload_n 3, 1) := dk_29 (dk_at dksX2_isOne_1 8 rfl rfl)
theorem dX2_isOne_33 : decode cX2_isOne 33 = .ok (.iaload, 1) := dk_46 (dk_at dksX2_isOne_1 9 rfl rfl)
theorem dX2_isOne_34 : decode cX2_isOne 34 = .ok (.idiv, 1) := dk_108 (dk_at dksX2_isOne_1 10 rfl rfl)
theorem dX2_isOne_35 : decode cX2_isOne 35 = .ok (.aload_n 0, 1) := dk_42 (dk_at dksX2_isOne_1 11 rfl rfl)
theorem dX2_isOne_36 : decode cX2_isOne 36 = .ok (.getfield 29, 3) := dk_180 0 29 (dk_at dksX2_isOne_1 12 rfl rfl)
theorem dX2_isOne_39 : decode cX2_isOne 39 = .ok (.getfield 62, 3) := dk_180 0 62 (dk_at dksX2_isOne_1 15 rfl rfl)
theorem dX2_isOne_42 : decode cX2_isOne 42 = .ok (.iload_n 3, 1) := dk_29 (dk_at dksX2_isOne_1 18 rfl rfl)
theorem dX2_isOne_43 : decode cX2_isOne 43 = .ok (.invokeinterface 52 2, 5) := by decide +kernel
theorem dX2_isOne_48 : decode cX2_isOne 48 = .ok (.checkcast 65, 3) := dk_192 0 65 (dk_at dksX2_isOne_2 0 rfl rfl)
theorem dX2_isOne_51 : decode cX2_isOne 51 = .ok (.getfield 71, 3) := dk_180 0 71 (dk_at dksX2_isOne_2 3 rfl rfl)
theorem dX2_isOne_54 : decode cX2_isOne 54 = .ok (.irem, 1) := dk_112 (dk_at dksX2_isOne_2 6 rfl rfl)
theorem dX2_isOne_55 : decode cX2_isOne 55 = .ok (.aload_n 0, 1) := dk_42 (dk_at dksX2_isOne_2 7 rfl rfl)
theorem dX2_isOne_56 : decode cX2_isOne 56 = .ok (.getfield 15, 3) := dk_180 0 15 (dk_at dksX2_isOne_2 8 rfl rfl)
theorem dX2_isOne_59 : decode cX2_isOne 59 = .ok (.iload_n 3, 1) := dk_29 (dk_at dksX2_isOne_2 11 rfl rfl)
theorem dX2_isOne_60 : decode cX2_isOne 60 = .ok (.iaload, 1) := dk_46 (dk_at dksX2_isOne_2 12 rfl rfl)
theorem dX2_isOne_61 : decode cX2_isOne 61 = .ok (.if_icmp .eq 5, 3) := dk_159 0 5 (dk_at dksX2_isOne_2 13 rfl rfl)
theorem dX2_isOne_64 : decode cX2_isOne 64 = .ok (.iconst 0, 1) := dk_3 (dk_at dksX2_isOne_2 16 rfl rfl)
theorem dX2_isOne_65 : decode cX2_isOne 65 = .ok (.ireturn, 1) := dk_172 (dk_at dksX2_isOne_2 17 rfl rfl)
theorem dX2_isOne_66 : decode cX2_isOne 66 = .ok (.iinc 3 1, 3) := dk_132 3 1 (dk_at dksX2_isOne_2 18 rfl rfl)
theorem dX2_isOne_69 : decode cX2_isOne 69 = .ok (.goto (-67), 3) := dk_167 255 189 (dk_at dksX2_isOne_2 21 rfl rfl)
theorem dX2_isOne_72 : decode cX2_isOne 72 = .ok (.iconst 1, 1) := dk_4 (dk_at dksX2_isOne_3 0 rfl rfl)
theorem dX2_isOne_73 : decode cX2_isOne 73 = .ok (.ireturn, 1) := dk_172 (dk_at dksX2_isOne_3 1 rfl rfl)
abbrev cX2_answer : ByteArray := prog_27_method_5_code
def yX2_answer : MethodName := ⟨RX2, "answer", "()I"⟩
def dkwX2_answer_1 : List UInt8 := [167, 0, 4, 5, 172]
abbrev dktX2_answer_1 : List UInt8 := dkwX2_answer_1 ++ []
def dkwX2_answer_0 : List UInt8 := [42, 180, 0, 22, 3, 46, 154, 0, 7, 4, 167, 0, 17, 42, 180, 0, 22, 4, 46, 154, 0, 7, 3]
abbrev dktX2_answer_0 : List UInt8 := dkwX2_answer_0 ++ dktX2_answer_1
theorem dksX2_answer_0 : cX2_answer.data.toList.drop 0 = dktX2_answer_0 := by decide +kernel
theorem dksX2_answer_1 : cX2_answer.data.toList.drop 23 = dktX2_answer_1 := dk_seg dksX2_answer_0 23 rfl rfl
theorem dX2_answer_0 : decode cX2_answer 0 = .ok (.aload_n 0, 1) := dk_42 (dk_at dksX2_answer_0 0 rfl rfl)
theorem dX2_answer_1 : decode cX2_answer 1 = .ok (.getfield 22, 3) := dk_180 0 22 (dk_at dksX2_answer_0 1 rfl rfl)
theorem dX2_answer_4 : decode cX2_answer 4 = .ok (.iconst 0, 1) := dk_3 (dk_at dksX2_answer_0 4 rfl rfl)
theorem dX2_answer_5 : decode cX2_answer 5 = .ok (.iaload, 1) := dk_46 (dk_at dksX2_answer_0 5 rfl rfl)
theorem dX2_answer_6 : decode cX2_answer 6 = .ok (.ifCond .ne 7, 3) := dk_154 0 7 (dk_at dksX2_answer_0 6 rfl rfl)
theorem dX2_answer_9 : decode cX2_answer 9 = .ok (.iconst 1, 1) := dk_4 (dk_at dksX2_answer_0 9 rfl rfl)
theorem dX2_answer_10 : decode cX2_answer 10 = .ok (.goto 17, 3) := dk_167 0 17 (dk_at dksX2_answer_0 10 rfl rfl)
theorem dX2_answer_13 : decode cX2_answer 13 = .ok (.aload_n 0, 1) := dk_42 (dk_at dksX2_answer_0 13 rfl rfl)
theorem dX2_answer_14 : decode cX2_answer 14 = .ok (.getfield 22, 3) := dk_180 0 22 (dk_at dksX2_answer_0 14 rfl rfl)
theorem dX2_answer_17 : decode cX2_answer 17 = .ok (.iconst 1, 1) := dk_4 (dk_at dksX2_answer_0 17 rfl rfl)
theorem dX2_answer_18 : decode cX2_answer 18 = .ok (.iaload, 1) := dk_46 (dk_at dksX2_answer_0 18 rfl rfl)
theorem dX2_answer_19 : decode cX2_answer 19 = .ok (.ifCond .ne 7, 3) := dk_154 0 7 (dk_at dksX2_answer_0 19 rfl rfl)
theorem dX2_answer_22 : decode cX2_answer 22 = .ok (.iconst 0, 1) := dk_3 (dk_at dksX2_answer_0 22 rfl rfl)
theorem dX2_answer_23 : decode cX2_answer 23 = .ok (.goto 4, 3) := dk_167 0 4 (dk_at dksX2_answer_1 0 rfl rfl)
theorem dX2_answer_26 : decode cX2_answer 26 = .ok (.iconst 2, 1) := dk_5 (dk_at dksX2_answer_1 3 rfl rfl)
theorem dX2_answer_27 : decode cX2_answer 27 = .ok (.ireturn, 1) := dk_172 (dk_at dksX2_answer_1 4 rfl rfl)
abbrev cX2_least : ByteArray := prog_27_method_9_code
def yX2_least : MethodName := ⟨RX2, "least", "(Z)I"⟩
def dkwX2_least_4 : List UInt8 := [182, 0, 103, 153, 0, 7, 21, 5, 54, 4, 132, 5, 1, 167, 255, 194, 21, 4, 172]
abbrev dktX2_least_4 : List UInt8 := dkwX2_least_4 ++ []
def dkwX2_least_3 : List UInt8 := [167, 0, 33, 27, 153, 0, 16, 42, 21, 5, 182, 0, 100, 5, 159, 0, 19, 167, 0, 12, 42, 21, 5]
abbrev dktX2_least_3 : List UInt8 := dkwX2_least_3 ++ dktX2_least_4
def dkwX2_least_2 : List UInt8 := [163, 0, 62, 21, 5, 29, 2, 130, 126, 154, 0, 47, 42, 21, 5, 21, 4, 182, 0, 97, 154, 0, 6]
abbrev dktX2_least_2 : List UInt8 := dkwX2_least_2 ++ dktX2_least_3
def dkwX2_least_1 : List UInt8 := [180, 0, 33, 167, 0, 11, 28, 42, 180, 0, 33, 2, 130, 126, 62, 2, 54, 4, 3, 54, 5, 21, 5, 28]
abbrev dktX2_least_1 : List UInt8 := dkwX2_least_1 ++ dktX2_least_2
def dkwX2_least_0 : List UInt8 := [4, 42, 180, 0, 29, 180, 0, 37, 185, 0, 43, 1, 0, 120, 4, 100, 61, 27, 153, 0, 10, 42]
abbrev dktX2_least_0 : List UInt8 := dkwX2_least_0 ++ dktX2_least_1
theorem dksX2_least_0 : cX2_least.data.toList.drop 0 = dktX2_least_0 := by decide +kernel
theorem dksX2_least_1 : cX2_least.data.toList.drop 22 = dktX2_least_1 := dk_seg dksX2_least_0 22 rfl rfl
theorem dksX2_least_2 : cX2_least.data.toList.drop 46 = dktX2_least_2 := dk_seg dksX2_least_1 24 rfl rfl
theorem dksX2_least_3 : cX2_least.data.toList.drop 69 = dktX2_least_3 := dk_seg dksX2_least_2 23 rfl rfl
theorem dksX2_least_4 : cX2_least.data.toList.drop 92 = dktX2_least_4 := dk_seg dksX2_least_3 23 rfl rfl
theorem dX2_least_0 : decode cX2_least 0 = .ok (.iconst 1, 1) := dk_4 (dk_at dksX2_least_0 0 rfl rfl)
theorem dX2_least_1 : decode cX2_least 1 = .ok (.aload_n 0, 1) := dk_42 (dk_at dksX2_least_0 1 rfl rfl)
theorem dX2_least_2 : decode cX2_least 2 = .ok (.getfield 29, 3) := dk_180 0 29 (dk_at dksX2_least_0 2 rfl rfl)
theorem dX2_least_5 : decode cX2_least 5 = .ok (.getfield 37, 3) := dk_180 0 37 (dk_at dksX2_least_0 5 rfl rfl)
theorem dX2_least_8 : decode cX2_least 8 = .ok (.invokeinterface 43 1, 5) := by decide +kernel
theorem dX2_least_13 : decode cX2_least 13 = .ok (.ishl, 1) := dk_120 (dk_at dksX2_least_0 13 rfl rfl)
theorem dX2_least_14 : decode cX2_least 14 = .ok (.iconst 1, 1) := dk_4 (dk_at dksX2_least_0 14 rfl rfl)
theorem dX2_least_15 : decode cX2_least 15 = .ok (.isub, 1) := dk_100 (dk_at dksX2_least_0 15 rfl rfl)
theorem dX2_least_16 : decode cX2_least 16 = .ok (.istore_n 2, 1) := dk_61 (dk_at dksX2_least_0 16 rfl rfl)
theorem dX2_least_17 : decode cX2_least 17 = .ok (.iload_n 1, 1) := dk_27 (dk_at dksX2_least_0 17 rfl rfl)
theorem dX2_least_18 : decode cX2_least 18 = .ok (.ifCond .eq 10, 3) := dk_153 0 10 (dk_at dksX2_least_0 18 rfl rfl)
theorem dX2_least_21 : decode cX2_least 21 = .ok (.aload_n 0, 1) := dk_42 (dk_at dksX2_least_0 21 rfl rfl)
theorem dX2_least_22 : decode cX2_least 22 = .ok (.getfield 33, 3) := dk_180 0 33 (dk_at dksX2_least_1 0 rfl rfl)
theorem dX2_least_25 : decode cX2_least 25 = .ok (.goto 11, 3) := dk_167 0 11 (dk_at dksX2_least_1 3 rfl rfl)
theorem dX2_least_28 : decode cX2_least 28 = .ok (.iload_n 2, 1) := dk_28 (dk_at dksX2_least_1 6 rfl rfl)
theorem dX2_least_29 : decode cX2_least 29 = .ok (.aload_n 0, 1) := dk_42 (dk_at dksX2_least_1 7 rfl rfl)
theorem dX2_least_30 : decode cX2_least 30 = .ok (.getfield 33, 3) := dk_180 0 33 (dk_at dksX2_least_1 8 rfl rfl)
theorem dX2_least_33 : decode cX2_least 33 = .ok (.iconst (-1), 1) := dk_2 (dk_at dksX2_least_1 11 rfl rfl)
theorem dX2_least_34 : decode cX2_least 34 = .ok (.ixor, 1) := dk_130 (dk_at dksX2_least_1 12 rfl rfl)
theorem dX2_least_35 : decode cX2_least 35 = .ok (.iand, 1) := dk_126 (dk_at dksX2_least_1 13 rfl rfl)
theorem dX2_least_36 : decode cX2_least 36 = .ok (.istore_n 3, 1) := dk_62 (dk_at dksX2_least_1 14 rfl rfl)
theorem dX2_least_37 : decode cX2_least 37 = .ok (.iconst (-1), 1) := dk_2 (dk_at dksX2_least_1 15 rfl rfl)
theorem dX2_least_38 : decode cX2_least 38 = .ok (.istore 4, 2) := dk_54 4 (dk_at dksX2_least_1 16 rfl rfl)
theorem dX2_least_40 : decode cX2_least 40 = .ok (.iconst 0, 1) := dk_3 (dk_at dksX2_least_1 18 rfl rfl)
theorem dX2_least_41 : decode cX2_least 41 = .ok (.istore 5, 2) := dk_54 5 (dk_at dksX2_least_1 19 rfl rfl)
theorem dX2_least_43 : decode cX2_least 43 = .ok (.iload 5, 2) := dk_21 5 (dk_at dksX2_least_1 21 rfl rfl)
theorem dX2_least_45 : decode cX2_least 45 = .ok (.iload_n 2, 1) := dk_28 (dk_at dksX2_least_1 23 rfl rfl)
theorem dX2_least_46 : decode cX2_least 46 = .ok (.if_icmp .gt 62, 3) := dk_163 0 62 (dk_at dksX2_least_2 0 rfl rfl)
theorem dX2_least_49 : decode cX2_least 49 = .ok (.iload 5, 2) := dk_21 5 (dk_at dksX2_least_2 3 rfl rfl)
theorem dX2_least_51 : decode cX2_least 51 = .ok (.iload_n 3, 1) := dk_29 (dk_at dksX2_least_2 5 rfl rfl)
theorem dX2_least_52 : decode cX2_least 52 = .ok (.iconst (-1), 1) := dk_2 (dk_at dksX2_least_2 6 rfl rfl)
theorem dX2_least_53 : decode cX2_least 53 = .ok (.ixor, 1) := dk_130 (dk_at dksX2_least_2 7 rfl rfl)
theorem dX2_least_54 : decode cX2_least 54 = .ok (.iand, 1) := dk_126 (dk_at dksX2_least_2 8 rfl rfl)
theorem dX2_least_55 : decode cX2_least 55 = .ok (.ifCond .ne 47, 3) := dk_154 0 47 (dk_at dksX2_least_2 9 rfl rfl)
theorem dX2_least_58 : decode cX2_least 58 = .ok (.aload_n 0, 1) := dk_42 (dk_at dksX2_least_2 12 rfl rfl)
theorem dX2_least_59 : decode cX2_least 59 = .ok (.iload 5, 2) := dk_21 5 (dk_at dksX2_least_2 13 rfl rfl)
theorem dX2_least_61 : decode cX2_least 61 = .ok (.iload 4, 2) := dk_21 4 (dk_at dksX2_least_2 15 rfl rfl)
theorem dX2_least_63 : decode cX2_least 63 = .ok (.invokevirtual 97, 3) := dk_182 0 97 (dk_at dksX2_least_2 17 rfl rfl)
theorem dX2_least_66 : decode cX2_least 66 = .ok (.ifCond .ne 6, 3) := dk_154 0 6 (dk_at dksX2_least_2 20 rfl rfl)
theorem dX2_least_69 : decode cX2_least 69 = .ok (.goto 33, 3) := dk_167 0 33 (dk_at dksX2_least_3 0 rfl rfl)
theorem dX2_least_72 : decode cX2_least 72 = .ok (.iload_n 1, 1) := dk_27 (dk_at dksX2_least_3 3 rfl rfl)
theorem dX2_least_73 : decode cX2_least 73 = .ok (.ifCond .eq 16, 3) := dk_153 0 16 (dk_at dksX2_least_3 4 rfl rfl)
theorem dX2_least_76 : decode cX2_least 76 = .ok (.aload_n 0, 1) := dk_42 (dk_at dksX2_least_3 7 rfl rfl)
theorem dX2_least_77 : decode cX2_least 77 = .ok (.iload 5, 2) := dk_21 5 (dk_at dksX2_least_3 8 rfl rfl)
theorem dX2_least_79 : decode cX2_least 79 = .ok (.invokevirtual 100, 3) := dk_182 0 100 (dk_at dksX2_least_3 10 rfl rfl)
theorem dX2_least_82 : decode cX2_least 82 = .ok (.iconst 2, 1) := dk_5 (dk_at dksX2_least_3 13 rfl rfl)
theorem dX2_least_83 : decode cX2_least 83 = .ok (.if_icmp .eq 19, 3) := dk_159 0 19 (dk_at dksX2_least_3 14 rfl rfl)
theorem dX2_least_86 : decode cX2_least 86 = .ok (.goto 12, 3) := dk_167 0 12 (dk_at dksX2_least_3 17 rfl rfl)
theorem dX2_least_89 : decode cX2_least 89 = .ok (.aload_n 0, 1) := dk_42 (dk_at dksX2_least_3 20 rfl rfl)
theorem dX2_least_90 : decode cX2_least 90 = .ok (.iload 5, 2) := dk_21 5 (dk_at dksX2_least_3 21 rfl rfl)
theorem dX2_least_92 : decode cX2_least 92 = .ok (.invokevirtual 103, 3) := dk_182 0 103 (dk_at dksX2_least_4 0 rfl rfl)
theorem dX2_least_95 : decode cX2_least 95 = .ok (.ifCond .eq 7, 3) := dk_153 0 7 (dk_at dksX2_least_4 3 rfl rfl)
theorem dX2_least_98 : decode cX2_least 98 = .ok (.iload 5, 2) := dk_21 5 (dk_at dksX2_least_4 6 rfl rfl)
theorem dX2_least_100 : decode cX2_least 100 = .ok (.istore 4, 2) := dk_54 4 (dk_at dksX2_least_4 8 rfl rfl)
theorem dX2_least_102 : decode cX2_least 102 = .ok (.iinc 5 1, 3) := dk_132 5 1 (dk_at dksX2_least_4 10 rfl rfl)
theorem dX2_least_105 : decode cX2_least 105 = .ok (.goto (-62), 3) := dk_167 255 194 (dk_at dksX2_least_4 13 rfl rfl)
theorem dX2_least_108 : decode cX2_least 108 = .ok (.iload 4, 2) := dk_21 4 (dk_at dksX2_least_4 16 rfl rfl)
theorem dX2_least_110 : decode cX2_least 110 = .ok (.ireturn, 1) := dk_172 (dk_at dksX2_least_4 18 rfl rfl)
abbrev cX2_isBefore : ByteArray := prog_27_method_8_code
def yX2_isBefore : MethodName := ⟨RX2, "isBefore", "(II)Z"⟩
def dkwX2_isBefore_1 : List UInt8 := [27, 27, 28, 130, 184, 0, 94, 126, 153, 0, 7, 4, 167, 0, 4, 3, 172]
abbrev dktX2_isBefore_1 : List UInt8 := dkwX2_isBefore_1 ++ []
def dkwX2_isBefore_0 : List UInt8 := [28, 156, 0, 5, 4, 172, 27, 184, 0, 89, 28, 184, 0, 89, 100, 62, 29, 155, 0, 18, 29, 154, 0, 18]
abbrev dktX2_isBefore_0 : List UInt8 := dkwX2_isBefore_0 ++ dktX2_isBefore_1
theorem dksX2_isBefore_0 : cX2_isBefore.data.toList.drop 0 = dktX2_isBefore_0 := by decide +kernel
theorem dksX2_isBefore_1 : cX2_isBefore.data.toList.drop 24 = dktX2_isBefore_1 := dk_seg dksX2_isBefore_0 24 rfl rfl
theorem dX2_isBefore_0 : decode cX2_isBefore 0 = .ok (.iload_n 2, 1) := dk_28 (dk_at dksX2_isBefore_0 0 rfl rfl)
theorem dX2_isBefore_1 : decode cX2_isBefore 1 = .ok (.ifCond .ge 5, 3) := dk_156 0 5 (dk_at dksX2_isBefore_0 1 rfl rfl)
theorem dX2_isBefore_4 : decode cX2_isBefore 4 = .ok (.iconst 1, 1) := dk_4 (dk_at dksX2_isBefore_0 4 rfl rfl)
theorem dX2_isBefore_5 : decode cX2_isBefore 5 = .ok (.ireturn, 1) := dk_172 (dk_at dksX2_isBefore_0 5 rfl rfl)
theorem dX2_isBefore_6 : decode cX2_isBefore 6 = .ok (.iload_n 1, 1) := dk_27 (dk_at dksX2_isBefore_0 6 rfl rfl)
theorem dX2_isBefore_7 : decode cX2_isBefore 7 = .ok (.invokestatic 89, 3) := dk_184 0 89 (dk_at dksX2_isBefore_0 7 rfl rfl)
theorem dX2_isBefore_10 : decode cX2_isBefore 10 = .ok (.iload_n 2, 1) := dk_28 (dk_at dksX2_isBefore_0 10 rfl rfl)
theorem dX2_isBefore_11 : decode cX2_isBefore 11 = .ok (.invokestatic 89, 3) := dk_184 0 89 (dk_at dksX2_isBefore_0 11 rfl rfl)
theorem dX2_isBefore_14 : decode cX2_isBefore 14 = .ok (.isub, 1) := dk_100 (dk_at dksX2_isBefore_0 14 rfl rfl)
theorem dX2_isBefore_15 : decode cX2_isBefore 15 = .ok (.istore_n 3, 1) := dk_62 (dk_at dksX2_isBefore_0 15 rfl rfl)
theorem dX2_isBefore_16 : decode cX2_isBefore 16 = .ok (.iload_n 3, 1) := dk_29 (dk_at dksX2_isBefore_0 16 rfl rfl)
theorem dX2_isBefore_17 : decode cX2_isBefore 17 = .ok (.ifCond .lt 18, 3) := dk_155 0 18 (dk_at dksX2_isBefore_0 17 rfl rfl)
theorem dX2_isBefore_20 : decode cX2_isBefore 20 = .ok (.iload_n 3, 1) := dk_29 (dk_at dksX2_isBefore_0 20 rfl rfl)
theorem dX2_isBefore_21 : decode cX2_isBefore 21 = .ok (.ifCond .ne 18, 3) := dk_154 0 18 (dk_at dksX2_isBefore_0 21 rfl rfl)
theorem dX2_isBefore_24 : decode cX2_isBefore 24 = .ok (.iload_n 1, 1) := dk_27 (dk_at dksX2_isBefore_1 0 rfl rfl)
theorem dX2_isBefore_25 : decode cX2_isBefore 25 = .ok (.iload_n 1, 1) := dk_27 (dk_at dksX2_isBefore_1 1 rfl rfl)
theorem dX2_isBefore_26 : decode cX2_isBefore 26 = .ok (.iload_n 2, 1) := dk_28 (dk_at dksX2_isBefore_1 2 rfl rfl)
theorem dX2_isBefore_27 : decode cX2_isBefore 27 = .ok (.ixor, 1) := dk_130 (dk_at dksX2_isBefore_1 3 rfl rfl)
theorem dX2_isBefore_28 : decode cX2_isBefore 28 = .ok (.invokestatic 94, 3) := dk_184 0 94 (dk_at dksX2_isBefore_1 4 rfl rfl)
theorem dX2_isBefore_31 : decode cX2_isBefore 31 = .ok (.iand, 1) := dk_126 (dk_at dksX2_isBefore_1 7 rfl rfl)
theorem dX2_isBefore_32 : decode cX2_isBefore 32 = .ok (.ifCond .eq 7, 3) := dk_153 0 7 (dk_at dksX2_isBefore_1 8 rfl rfl)
theorem dX2_isBefore_35 : decode cX2_isBefore 35 = .ok (.iconst 1, 1) := dk_4 (dk_at dksX2_isBefore_1 11 rfl rfl)
theorem dX2_isBefore_36 : decode cX2_isBefore 36 = .ok (.goto 4, 3) := dk_167 0 4 (dk_at dksX2_isBefore_1 12 rfl rfl)
theorem dX2_isBefore_39 : decode cX2_isBefore 39 = .ok (.iconst 0, 1) := dk_3 (dk_at dksX2_isBefore_1 15 rfl rfl)
theorem dX2_isBefore_40 : decode cX2_isBefore 40 = .ok (.ireturn, 1) := dk_172 (dk_at dksX2_isBefore_1 16 rfl rfl)
abbrev cX2_settles : ByteArray := prog_27_method_7_code
def yX2_settles : MethodName := ⟨RX2, "settles", "(I)Z"⟩
def dkwX2_settles_7 : List UInt8 := [180, 0, 25, 29, 42, 180, 0, 29, 180, 0, 79, 28, 51, 84, 132, 2, 1, 167, 255, 104, 4, 172]
abbrev dktX2_settles_7 : List UInt8 := dkwX2_settles_7 ++ []
def dkwX2_settles_6 : List UInt8 := [155, 0, 23, 42, 180, 0, 25, 29, 51, 42, 180, 0, 29, 180, 0, 79, 28, 51, 159, 0, 5, 3, 172, 42]
abbrev dktX2_settles_6 : List UInt8 := dkwX2_settles_6 ++ dktX2_settles_7
def dkwX2_settles_5 : List UInt8 := [112, 42, 180, 0, 19, 21, 4, 46, 104, 96, 62, 132, 4, 1, 167, 255, 185, 42, 180, 0, 25, 29, 51]
abbrev dktX2_settles_5 : List UInt8 := dkwX2_settles_5 ++ dktX2_settles_6
def dkwX2_settles_4 : List UInt8 := [21, 4, 46, 108, 42, 180, 0, 29, 180, 0, 62, 21, 4, 185, 0, 52, 2, 0, 192, 0, 65, 180, 0, 71]
abbrev dktX2_settles_4 : List UInt8 := dkwX2_settles_4 ++ dktX2_settles_5
def dkwX2_settles_3 : List UInt8 := [185, 0, 43, 1, 0, 162, 0, 60, 27, 21, 4, 122, 4, 126, 4, 160, 0, 44, 29, 28, 42, 180, 0, 19]
abbrev dktX2_settles_3 : List UInt8 := dkwX2_settles_3 ++ dktX2_settles_4
def dkwX2_settles_2 : List UInt8 := [182, 0, 75, 154, 0, 6, 167, 0, 126, 3, 62, 3, 54, 4, 21, 4, 42, 180, 0, 29, 180, 0, 37]
abbrev dktX2_settles_2 : List UInt8 := dkwX2_settles_2 ++ dktX2_settles_3
def dkwX2_settles_1 : List UInt8 := [167, 255, 235, 3, 61, 28, 42, 180, 0, 29, 180, 0, 73, 162, 0, 147, 42, 28, 42, 180, 0, 33]
abbrev dktX2_settles_1 : List UInt8 := dkwX2_settles_1 ++ dktX2_settles_2
def dkwX2_settles_0 : List UInt8 := [3, 61, 28, 42, 180, 0, 29, 180, 0, 73, 162, 0, 16, 42, 180, 0, 25, 28, 2, 84, 132, 2, 1]
abbrev dktX2_settles_0 : List UInt8 := dkwX2_settles_0 ++ dktX2_settles_1
theorem dksX2_settles_0 : cX2_settles.data.toList.drop 0 = dktX2_settles_0 := by decide +kernel
theorem dksX2_settles_1 : cX2_settles.data.toList.drop 23 = dktX2_settles_1 := dk_seg dksX2_settles_0 23 rfl rfl
theorem dksX2_settles_2 : cX2_settles.data.toList.drop 45 = dktX2_settles_2 := dk_seg dksX2_settles_1 22 rfl rfl
theorem dksX2_settles_3 : cX2_settles.data.toList.drop 68 = dktX2_settles_3 := dk_seg dksX2_settles_2 23 rfl rfl
theorem dksX2_settles_4 : cX2_settles.data.toList.drop 92 = dktX2_settles_4 := dk_seg dksX2_settles_3 24 rfl rfl
theorem dksX2_settles_5 : cX2_settles.data.toList.drop 116 = dktX2_settles_5 := dk_seg dksX2_settles_4 24 rfl rfl
theorem dksX2_settles_6 : cX2_settles.data.toList.drop 139 = dktX2_settles_6 := dk_seg dksX2_settles_5 23 rfl rfl
theorem dksX2_settles_7 : cX2_settles.data.toList.drop 163 = dktX2_settles_7 := dk_seg dksX2_settles_6 24 rfl rfl
theorem dX2_settles_0 : decode cX2_settles 0 = .ok (.iconst 0, 1) := dk_3 (dk_at dksX2_settles_0 0 rfl rfl)
theorem dX2_settles_1 : decode cX2_settles 1 = .ok (.istore_n 2, 1) := dk_61 (dk_at dksX2_settles_0 1 rfl rfl)
theorem dX2_settles_2 : decode cX2_settles 2 = .ok (.iload_n 2, 1) := dk_28 (dk_at dksX2_settles_0 2 rfl rfl)
theorem dX2_settles_3 : decode cX2_settles 3 = .ok (.aload_n 0, 1) := dk_42 (dk_at dksX2_settles_0 3 rfl rfl)
theorem dX2_settles_4 : decode cX2_settles 4 = .ok (.getfield 29, 3) := dk_180 0 29 (dk_at dksX2_settles_0 4 rfl rfl)
theorem dX2_settles_7 : decode cX2_settles 7 = .ok (.getfield 73, 3) := dk_180 0 73 (dk_at dksX2_settles_0 7 rfl rfl)
theorem dX2_settles_10 : decode cX2_settles 10 = .ok (.if_icmp .ge 16, 3) := dk_162 0 16 (dk_at dksX2_settles_0 10 rfl rfl)
theorem dX2_settles_13 : decode cX2_settles 13 = .ok (.aload_n 0, 1) := dk_42 (dk_at dksX2_settles_0 13 rfl rfl)
theorem dX2_settles_14 : decode cX2_settles 14 = .ok (.getfield 25, 3) := dk_180 0 25 (dk_at dksX2_settles_0 14 rfl rfl)
theorem dX2_settles_17 : decode cX2_settles 17 = .ok (.iload_n 2, 1) := dk_28 (dk_at dksX2_settles_0 17 rfl rfl)
theorem dX2_settles_18 : decode cX2_settles 18 = .ok (.iconst (-1), 1) := dk_2 (dk_at dksX2_settles_0 18 rfl rfl)
theorem dX2_settles_19 : decode cX2_settles 19 = .ok (.bastore, 1) := dk_84 (dk_at dksX2_settles_0 19 rfl rfl)
theorem dX2_settles_20 : decode cX2_settles 20 = .ok (.iinc 2 1, 3) := dk_132 2 1 (dk_at dksX2_settles_0 20 rfl rfl)
theorem dX2_settles_23 : decode cX2_settles 23 = .ok (.goto (-21), 3) := dk_167 255 235 (dk_at dksX2_settles_1 0 rfl rfl)
theorem dX2_settles_26 : decode cX2_settles 26 = .ok (.iconst 0, 1) := dk_3 (dk_at dksX2_settles_1 3 rfl rfl)
theorem dX2_settles_27 : decode cX2_settles 27 = .ok (.istore_n 2, 1) := dk_61 (dk_at dksX2_settles_1 4 rfl rfl)
theorem dX2_settles_28 : decode cX2_settles 28 = .ok (.iload_n 2, 1) := dk_28 (dk_at dksX2_settles_1 5 rfl rfl)
theorem dX2_settles_29 : decode cX2_settles 29 = .ok (.aload_n 0, 1) := dk_42 (dk_at dksX2_settles_1 6 rfl rfl)
theorem dX2_settles_30 : decode cX2_settles 30 = .ok (.getfield 29, 3) := dk_180 0 29 (dk_at dksX2_settles_1 7 rfl rfl)
theorem dX2_settles_33 : decode cX2_settles 33 = .ok (.getfield 73, 3) := dk_180 0 73 (dk_at dksX2_settles_1 10 rfl rfl)
theorem dX2_settles_36 : decode cX2_settles 36 = .ok (.if_icmp .ge 147, 3) := dk_162 0 147 (dk_at dksX2_settles_1 13 rfl rfl)
theorem dX2_settles_39 : decode cX2_settles 39 = .ok (.aload_n 0, 1) := dk_42 (dk_at dksX2_settles_1 16 rfl rfl)
theorem dX2_settles_40 : decode cX2_settles 40 = .ok (.iload_n 2, 1) := dk_28 (dk_at dksX2_settles_1 17 rfl rfl)
theorem dX2_settles_41 : decode cX2_settles 41 = .ok (.aload_n 0, 1) := dk_42 (dk_at dksX2_settles_1 18 rfl rfl)
theorem dX2_settles_42 : decode cX2_settles 42 = .ok (.getfield 33, 3) := dk_180 0 33 (dk_at dksX2_settles_1 19 rfl rfl)
theorem dX2_settles_45 : decode cX2_settles 45 = .ok (.invokevirtual 75, 3) := dk_182 0 75 (dk_at dksX2_settles_2 0 rfl rfl)
theorem dX2_settles_48 : decode cX2_settles 48 = .ok (.ifCond .ne 6, 3) := dk_154 0 6 (dk_at dksX2_settles_2 3 rfl rfl)
theorem dX2_settles_51 : decode cX2_settles 51 = .ok (.goto 126, 3) := dk_167 0 126 (dk_at dksX2_settles_2 6 rfl rfl)
theorem dX2_settles_54 : decode cX2_settles 54 = .ok (.iconst 0, 1) := dk_3 (dk_at dksX2_settles_2 9 rfl rfl)
theorem dX2_settles_55 : decode cX2_settles 55 = .ok (.istore_n 3, 1) := dk_62 (dk_at dksX2_settles_2 10 rfl rfl)
theorem dX2_settles_56 : decode cX2_settles 56 = .ok (.iconst 0, 1) := dk_3 (dk_at dksX2_settles_2 11 rfl rfl)
theorem dX2_settles_57 : decode cX2_settles 57 = .ok (.istore 4, 2) := dk_54 4 (dk_at dksX2_settles_2 12 rfl rfl)
theorem dX2_settles_59 : decode cX2_settles 59 = .ok (.iload 4, 2) := dk_21 4 (dk_at dksX2_settles_2 14 rfl rfl)
theorem dX2_settles_61 : decode cX2_settles 61 = .ok (.aload_n 0, 1) := dk_42 (dk_at dksX2_settles_2 16 rfl rfl)
theorem dX2_settles_62 : decode cX2_settles 62 = .ok (.getfield 29, 3) := dk_180 0 29 (dk_at dksX2_settles_2 17 rfl rfl)
theorem dX2_settles_65 : decode cX2_settles 65 = .ok (.getfield 37, 3) := dk_180 0 37 (dk_at dksX2_settles_2 20 rfl rfl)
theorem dX2_settles_68 : decode cX2_settles 68 = .ok (.invokeinterface 43 1, 5) := by decide +kernel
theorem dX2_settles_73 : decode cX2_settles 73 = .ok (.if_icmp .ge 60, 3) := dk_162 0 60 (dk_at dksX2_settles_3 5 rfl rfl)
theorem dX2_settles_76 : decode cX2_settles 76 = .ok (.iload_n 1, 1) := dk_27 (dk_at dksX2_settles_3 8 rfl rfl)
theorem dX2_settles_77 : decode cX2_settles 77 = .ok (.iload 4, 2) := dk_21 4 (dk_at dksX2_settles_3 9 rfl rfl)
theorem dX2_settles_79 : decode cX2_settles 79 = .ok (.ishr, 1) := dk_122 (dk_at dksX2_settles_3 11 rfl rfl)
theorem dX2_settles_80 : decode cX2_settles 80 = .ok (.iconst 1, 1) := dk_4 (dk_at dksX2_settles_3 12 rfl rfl)
theorem dX2_settles_81 : decode cX2_settles 81 = .ok (.iand, 1) := dk_126 (dk_at dksX2_settles_3 13 rfl rfl)
theorem dX2_settles_82 : decode cX2_settles 82 = .ok (.iconst 1, 1) := dk_4 (dk_at dksX2_settles_3 14 rfl rfl)
theorem dX2_settles_83 : decode cX2_settles 83 = .ok (.if_icmp .ne 44, 3) := dk_160 0 44 (dk_at dksX2_settles_3 15 rfl rfl)
theorem dX2_settles_86 : decode cX2_settles 86 = .ok (.iload_n 3, 1) := dk_29 (dk_at dksX2_settles_3 18 rfl rfl)
theorem dX2_settles_87 : decode cX2_settles 87 = .ok (.iload_n 2, 1) := dk_28 (dk_at dksX2_settles_3 19 rfl rfl)
theorem dX2_settles_88 : decode cX2_settles 88 = .ok (.aload_n 0, 1) := dk_42 (dk_at dksX2_settles_3 20 rfl rfl)
theorem dX2_settles_89 : decode cX2_settles 89 = .ok (.getfield 19, 3) := dk_180 0 19 (dk_at dksX2_settles_3 21 rfl rfl)
theorem dX2_settles_92 : decode cX2_settles 92 = .ok (.iload 4, 2) := dk_21 4 (dk_at dksX2_settles_4 0 rfl rfl)
theorem dX2_settles_94 : decode cX2_settles 94 = .ok (.iaload, 1) := dk_46 (dk_at dksX2_settles_4 2 rfl rfl)
theorem dX2_settles_95 : decode cX2_settles 95 = .ok (.idiv, 1) := dk_108 (dk_at dksX2_settles_4 3 rfl rfl)
theorem dX2_settles_96 : decode cX2_settles 96 = .ok (.aload_n 0, 1) := dk_42 (dk_at dksX2_settles_4 4 rfl rfl)
theorem dX2_settles_97 : decode cX2_settles 97 = .ok (.getfield 29, 3) := dk_180 0 29 (dk_at dksX2_settles_4 5 rfl rfl)
theorem dX2_settles_100 : decode cX2_settles 100 = .ok (.getfield 62, 3) := dk_180 0 62 (dk_at dksX2_settles_4 8 rfl rfl)
theorem dX2_settles_103 : decode cX2_settles 103 = .ok (.iload 4, 2) := dk_21 4 (dk_at dksX2_settles_4 11 rfl rfl)
theorem dX2_settles_105 : decode cX2_settles 105 = .ok (.invokeinterface 52 2, 5) := by decide +kernel
theorem dX2_settles_110 : decode cX2_settles 110 = .ok (.checkcast 65, 3) := dk_192 0 65 (dk_at dksX2_settles_4 18 rfl rfl)
theorem dX2_settles_113 : decode cX2_settles 113 = .ok (.getfield 71, 3) := dk_180 0 71 (dk_at dksX2_settles_4 21 rfl rfl)
theorem dX2_settles_116 : decode cX2_settles 116 = .ok (.irem, 1) := dk_112 (dk_at dksX2_settles_5 0 rfl rfl)
theorem dX2_settles_117 : decode cX2_settles 117 = .ok (.aload_n 0, 1) := dk_42 (dk_at dksX2_settles_5 1 rfl rfl)
theorem dX2_settles_118 : decode cX2_settles 118 = .ok (.getfield 19, 3) := dk_180 0 19 (dk_at dksX2_settles_5 2 rfl rfl)
theorem dX2_settles_121 : decode cX2_settles 121 = .ok (.iload 4, 2) := dk_21 4 (dk_at dksX2_settles_5 5 rfl rfl)
theorem dX2_settles_123 : decode cX2_settles 123 = .ok (.iaload, 1) := dk_46 (dk_at dksX2_settles_5 7 rfl rfl)
theorem dX2_settles_124 : decode cX2_settles 124 = .ok (.imul, 1) := dk_104 (dk_at dksX2_settles_5 8 rfl rfl)
theorem dX2_settles_125 : decode cX2_settles 125 = .ok (.iadd, 1) := dk_96 (dk_at dksX2_settles_5 9 rfl rfl)
theorem dX2_settles_126 : decode cX2_settles 126 = .ok (.istore_n 3, 1) := dk_62 (dk_at dksX2_settles_5 10 rfl rfl)
theorem dX2_settles_127 : decode cX2_settles 127 = .ok (.iinc 4 1, 3) := dk_132 4 1 (dk_at dksX2_settles_5 11 rfl rfl)
theorem dX2_settles_130 : decode cX2_settles 130 = .ok (.goto (-71), 3) := dk_167 255 185 (dk_at dksX2_settles_5 14 rfl rfl)
theorem dX2_settles_133 : decode cX2_settles 133 = .ok (.aload_n 0, 1) := dk_42 (dk_at dksX2_settles_5 17 rfl rfl)
theorem dX2_settles_134 : decode cX2_settles 134 = .ok (.getfield 25, 3) := dk_180 0 25 (dk_at dksX2_settles_5 18 rfl rfl)
theorem dX2_settles_137 : decode cX2_settles 137 = .ok (.iload_n 3, 1) := dk_29 (dk_at dksX2_settles_5 21 rfl rfl)
theorem dX2_settles_138 : decode cX2_settles 138 = .ok (.baload, 1) := dk_51 (dk_at dksX2_settles_5 22 rfl rfl)
theorem dX2_settles_139 : decode cX2_settles 139 = .ok (.ifCond .lt 23, 3) := dk_155 0 23 (dk_at dksX2_settles_6 0 rfl rfl)
theorem dX2_settles_142 : decode cX2_settles 142 = .ok (.aload_n 0, 1) := dk_42 (dk_at dksX2_settles_6 3 rfl rfl)
theorem dX2_settles_143 : decode cX2_settles 143 = .ok (.getfield 25, 3) := dk_180 0 25 (dk_at dksX2_settles_6 4 rfl rfl)
theorem dX2_settles_146 : decode cX2_settles 146 = .ok (.iload_n 3, 1) := dk_29 (dk_at dksX2_settles_6 7 rfl rfl)
theorem dX2_settles_147 : decode cX2_settles 147 = .ok (.baload, 1) := dk_51 (dk_at dksX2_settles_6 8 rfl rfl)
theorem dX2_settles_148 : decode cX2_settles 148 = .ok (.aload_n 0, 1) := dk_42 (dk_at dksX2_settles_6 9 rfl rfl)
theorem dX2_settles_149 : decode cX2_settles 149 = .ok (.getfield 29, 3) := dk_180 0 29 (dk_at dksX2_settles_6 10 rfl rfl)
theorem dX2_settles_152 : decode cX2_settles 152 = .ok (.getfield 79, 3) := dk_180 0 79 (dk_at dksX2_settles_6 13 rfl rfl)
theorem dX2_settles_155 : decode cX2_settles 155 = .ok (.iload_n 2, 1) := dk_28 (dk_at dksX2_settles_6 16 rfl rfl)
theorem dX2_settles_156 : decode cX2_settles 156 = .ok (.baload, 1) := dk_51 (dk_at dksX2_settles_6 17 rfl rfl)
theorem dX2_settles_157 : decode cX2_settles 157 = .ok (.if_icmp .eq 5, 3) := dk_159 0 5 (dk_at dksX2_settles_6 18 rfl rfl)
theorem dX2_settles_160 : decode cX2_settles 160 = .ok (.iconst 0, 1) := dk_3 (dk_at dksX2_settles_6 21 rfl rfl)
theorem dX2_settles_161 : decode cX2_settles 161 = .ok (.ireturn, 1) := dk_172 (dk_at dksX2_settles_6 22 rfl rfl)
theorem dX2_settles_162 : decode cX2_settles 162 = .ok (.aload_n 0, 1) := dk_42 (dk_at dksX2_settles_6 23 rfl rfl)
theorem dX2_settles_163 : decode cX2_settles 163 = .ok (.getfield 25, 3) := dk_180 0 25 (dk_at dksX2_settles_7 0 rfl rfl)
theorem dX2_settles_166 : decode cX2_settles 166 = .ok (.iload_n 3, 1) := dk_29 (dk_at dksX2_settles_7 3 rfl rfl)
theorem dX2_settles_167 : decode cX2_settles 167 = .ok (.aload_n 0, 1) := dk_42 (dk_at dksX2_settles_7 4 rfl rfl)
theorem dX2_settles_168 : decode cX2_settles 168 = .ok (.getfield 29, 3) := dk_180 0 29 (dk_at dksX2_settles_7 5 rfl rfl)
theorem dX2_settles_171 : decode cX2_settles 171 = .ok (.getfield 79, 3) := dk_180 0 79 (dk_at dksX2_settles_7 8 rfl rfl)
theorem dX2_settles_174 : decode cX2_settles 174 = .ok (.iload_n 2, 1) := dk_28 (dk_at dksX2_settles_7 11 rfl rfl)
theorem dX2_settles_175 : decode cX2_settles 175 = .ok (.baload, 1) := dk_51 (dk_at dksX2_settles_7 12 rfl rfl)
theorem dX2_settles_176 : decode cX2_settles 176 = .ok (.bastore, 1) := dk_84 (dk_at dksX2_settles_7 13 rfl rfl)
theorem dX2_settles_177 : decode cX2_settles 177 = .ok (.iinc 2 1, 3) := dk_132 2 1 (dk_at dksX2_settles_7 14 rfl rfl)
theorem dX2_settles_180 : decode cX2_settles 180 = .ok (.goto (-152), 3) := dk_167 255 104 (dk_at dksX2_settles_7 17 rfl rfl)
theorem dX2_settles_183 : decode cX2_settles 183 = .ok (.iconst 1, 1) := dk_4 (dk_at dksX2_settles_7 20 rfl rfl)
theorem dX2_settles_184 : decode cX2_settles 184 = .ok (.ireturn, 1) := dk_172 (dk_at dksX2_settles_7 21 rfl rfl)
abbrev cX2_truth : ByteArray := prog_27_method_10_code
def yX2_truth : MethodName := ⟨RX2, "truth", "(LCoverHouse$Cond;)I"⟩
def dkwX2_truth_5 : List UInt8 := [167, 0, 4, 3, 172]
abbrev dktX2_truth_5 : List UInt8 := dkwX2_truth_5 ++ []
def dkwX2_truth_4 : List UInt8 := [132, 4, 1, 167, 255, 166, 28, 153, 0, 11, 29, 153, 0, 7, 5, 167, 0, 12, 28, 153, 0, 7, 4]
abbrev dktX2_truth_4 : List UInt8 := dkwX2_truth_4 ++ dktX2_truth_5
def dkwX2_truth_3 : List UInt8 := [182, 0, 115, 43, 42, 180, 0, 3, 180, 0, 107, 182, 0, 119, 153, 0, 8, 4, 61, 167, 0, 5, 4, 62]
abbrev dktX2_truth_3 : List UInt8 := dkwX2_truth_3 ++ dktX2_truth_4
def dkwX2_truth_2 : List UInt8 := [21, 4, 42, 180, 0, 3, 180, 0, 107, 182, 0, 111, 42, 180, 0, 29, 42, 180, 0, 3, 180, 0, 107]
abbrev dktX2_truth_2 : List UInt8 := dkwX2_truth_2 ++ dktX2_truth_3
def dkwX2_truth_1 : List UInt8 := [154, 0, 76, 42, 21, 4, 42, 180, 0, 33, 182, 0, 75, 154, 0, 6, 167, 0, 54, 42, 180, 0, 29]
abbrev dktX2_truth_1 : List UInt8 := dkwX2_truth_1 ++ dktX2_truth_2
def dkwX2_truth_0 : List UInt8 := [3, 61, 3, 62, 3, 54, 4, 21, 4, 42, 180, 0, 29, 180, 0, 73, 162, 0, 84, 28, 153, 0, 7, 29]
abbrev dktX2_truth_0 : List UInt8 := dkwX2_truth_0 ++ dktX2_truth_1
theorem dksX2_truth_0 : cX2_truth.data.toList.drop 0 = dktX2_truth_0 := by decide +kernel
theorem dksX2_truth_1 : cX2_truth.data.toList.drop 24 = dktX2_truth_1 := dk_seg dksX2_truth_0 24 rfl rfl
theorem dksX2_truth_2 : cX2_truth.data.toList.drop 47 = dktX2_truth_2 := dk_seg dksX2_truth_1 23 rfl rfl
theorem dksX2_truth_3 : cX2_truth.data.toList.drop 70 = dktX2_truth_3 := dk_seg dksX2_truth_2 23 rfl rfl
theorem dksX2_truth_4 : cX2_truth.data.toList.drop 94 = dktX2_truth_4 := dk_seg dksX2_truth_3 24 rfl rfl
theorem dksX2_truth_5 : cX2_truth.data.toList.drop 117 = dktX2_truth_5 := dk_seg dksX2_truth_4 23 rfl rfl
theorem dX2_truth_0 : decode cX2_truth 0 = .ok (.iconst 0, 1) := dk_3 (dk_at dksX2_truth_0 0 rfl rfl)
theorem dX2_truth_1 : decode cX2_truth 1 = .ok (.istore_n 2, 1) := dk_61 (dk_at dksX2_truth_0 1 rfl rfl)
theorem dX2_truth_2 : decode cX2_truth 2 = .ok (.iconst 0, 1) := dk_3 (dk_at dksX2_truth_0 2 rfl rfl)
theorem dX2_truth_3 : decode cX2_truth 3 = .ok (.istore_n 3, 1) := dk_62 (dk_at dksX2_truth_0 3 rfl rfl)
theorem dX2_truth_4 : decode cX2_truth 4 = .ok (.iconst 0, 1) := dk_3 (dk_at dksX2_truth_0 4 rfl rfl)
theorem dX2_truth_5 : decode cX2_truth 5 = .ok (.istore 4, 2) := dk_54 4 (dk_at dksX2_truth_0 5 rfl rfl)
theorem dX2_truth_7 : decode cX2_truth 7 = .ok (.iload 4, 2) := dk_21 4 (dk_at dksX2_truth_0 7 rfl rfl)
theorem dX2_truth_9 : decode cX2_truth 9 = .ok (.aload_n 0, 1) := dk_42 (dk_at dksX2_truth_0 9 rfl rfl)
theorem dX2_truth_10 : decode cX2_truth 10 = .ok (.getfield 29, 3) := dk_180 0 29 (dk_at dksX2_truth_0 10 rfl rfl)
theorem dX2_truth_13 : decode cX2_truth 13 = .ok (.getfield 73, 3) := dk_180 0 73 (dk_at dksX2_truth_0 13 rfl rfl)
theorem dX2_truth_16 : decode cX2_truth 16 = .ok (.if_icmp .ge 84, 3) := dk_162 0 84 (dk_at dksX2_truth_0 16 rfl rfl)
theorem dX2_truth_19 : decode cX2_truth 19 = .ok (.iload_n 2, 1) := dk_28 (dk_at dksX2_truth_0 19 rfl rfl)
theorem dX2_truth_20 : decode cX2_truth 20 = .ok (.ifCond .eq 7, 3) := dk_153 0 7 (dk_at dksX2_truth_0 20 rfl rfl)
theorem dX2_truth_23 : decode cX2_truth 23 = .ok (.iload_n 3, 1) := dk_29 (dk_at dksX2_truth_0 23 rfl rfl)
theorem dX2_truth_24 : decode cX2_truth 24 = .ok (.ifCond .ne 76, 3) := dk_154 0 76 (dk_at dksX2_truth_1 0 rfl rfl)
theorem dX2_truth_27 : decode cX2_truth 27 = .ok (.aload_n 0, 1) := dk_42 (dk_at dksX2_truth_1 3 rfl rfl)
theorem dX2_truth_28 : decode cX2_truth 28 = .ok (.iload 4, 2) := dk_21 4 (dk_at dksX2_truth_1 4 rfl rfl)
theorem dX2_truth_30 : decode cX2_truth 30 = .ok (.aload_n 0, 1) := dk_42 (dk_at dksX2_truth_1 6 rfl rfl)
theorem dX2_truth_31 : decode cX2_truth 31 = .ok (.getfield 33, 3) := dk_180 0 33 (dk_at dksX2_truth_1 7 rfl rfl)
theorem dX2_truth_34 : decode cX2_truth 34 = .ok (.invokevirtual 75, 3) := dk_182 0 75 (dk_at dksX2_truth_1 10 rfl rfl)
theorem dX2_truth_37 : decode cX2_truth 37 = .ok (.ifCond .ne 6, 3) := dk_154 0 6 (dk_at dksX2_truth_1 13 rfl rfl)
theorem dX2_truth_40 : decode cX2_truth 40 = .ok (.goto 54, 3) := dk_167 0 54 (dk_at dksX2_truth_1 16 rfl rfl)
theorem dX2_truth_43 : decode cX2_truth 43 = .ok (.aload_n 0, 1) := dk_42 (dk_at dksX2_truth_1 19 rfl rfl)
theorem dX2_truth_44 : decode cX2_truth 44 = .ok (.getfield 29, 3) := dk_180 0 29 (dk_at dksX2_truth_1 20 rfl rfl)
theorem dX2_truth_47 : decode cX2_truth 47 = .ok (.iload 4, 2) := dk_21 4 (dk_at dksX2_truth_2 0 rfl rfl)
theorem dX2_truth_49 : decode cX2_truth 49 = .ok (.aload_n 0, 1) := dk_42 (dk_at dksX2_truth_2 2 rfl rfl)
theorem dX2_truth_50 : decode cX2_truth 50 = .ok (.getfield 3, 3) := dk_180 0 3 (dk_at dksX2_truth_2 3 rfl rfl)
theorem dX2_truth_53 : decode cX2_truth 53 = .ok (.getfield 107, 3) := dk_180 0 107 (dk_at dksX2_truth_2 6 rfl rfl)
theorem dX2_truth_56 : decode cX2_truth 56 = .ok (.invokevirtual 111, 3) := dk_182 0 111 (dk_at dksX2_truth_2 9 rfl rfl)
theorem dX2_truth_59 : decode cX2_truth 59 = .ok (.aload_n 0, 1) := dk_42 (dk_at dksX2_truth_2 12 rfl rfl)
theorem dX2_truth_60 : decode cX2_truth 60 = .ok (.getfield 29, 3) := dk_180 0 29 (dk_at dksX2_truth_2 13 rfl rfl)
theorem dX2_truth_63 : decode cX2_truth 63 = .ok (.aload_n 0, 1) := dk_42 (dk_at dksX2_truth_2 16 rfl rfl)
theorem dX2_truth_64 : decode cX2_truth 64 = .ok (.getfield 3, 3) := dk_180 0 3 (dk_at dksX2_truth_2 17 rfl rfl)
theorem dX2_truth_67 : decode cX2_truth 67 = .ok (.getfield 107, 3) := dk_180 0 107 (dk_at dksX2_truth_2 20 rfl rfl)
theorem dX2_truth_70 : decode cX2_truth 70 = .ok (.invokevirtual 115, 3) := dk_182 0 115 (dk_at dksX2_truth_3 0 rfl rfl)
theorem dX2_truth_73 : decode cX2_truth 73 = .ok (.aload_n 1, 1) := dk_43 (dk_at dksX2_truth_3 3 rfl rfl)
theorem dX2_truth_74 : decode cX2_truth 74 = .ok (.aload_n 0, 1) := dk_42 (dk_at dksX2_truth_3 4 rfl rfl)
theorem dX2_truth_75 : decode cX2_truth 75 = .ok (.getfield 3, 3) := dk_180 0 3 (dk_at dksX2_truth_3 5 rfl rfl)
theorem dX2_truth_78 : decode cX2_truth 78 = .ok (.getfield 107, 3) := dk_180 0 107 (dk_at dksX2_truth_3 8 rfl rfl)
theorem dX2_truth_81 : decode cX2_truth 81 = .ok (.invokevirtual 119, 3) := dk_182 0 119 (dk_at dksX2_truth_3 11 rfl rfl)
theorem dX2_truth_84 : decode cX2_truth 84 = .ok (.ifCond .eq 8, 3) := dk_153 0 8 (dk_at dksX2_truth_3 14 rfl rfl)
theorem dX2_truth_87 : decode cX2_truth 87 = .ok (.iconst 1, 1) := dk_4 (dk_at dksX2_truth_3 17 rfl rfl)
theorem dX2_truth_88 : decode cX2_truth 88 = .ok (.istore_n 2, 1) := dk_61 (dk_at dksX2_truth_3 18 rfl rfl)
theorem dX2_truth_89 : decode cX2_truth 89 = .ok (.goto 5, 3) := dk_167 0 5 (dk_at dksX2_truth_3 19 rfl rfl)
theorem dX2_truth_92 : decode cX2_truth 92 = .ok (.iconst 1, 1) := dk_4 (dk_at dksX2_truth_3 22 rfl rfl)
theorem dX2_truth_93 : decode cX2_truth 93 = .ok (.istore_n 3, 1) := dk_62 (dk_at dksX2_truth_3 23 rfl rfl)
theorem dX2_truth_94 : decode cX2_truth 94 = .ok (.iinc 4 1, 3) := dk_132 4 1 (dk_at dksX2_truth_4 0 rfl rfl)
theorem dX2_truth_97 : decode cX2_truth 97 = .ok (.goto (-90), 3) := dk_167 255 166 (dk_at dksX2_truth_4 3 rfl rfl)
theorem dX2_truth_100 : decode cX2_truth 100 = .ok (.iload_n 2, 1) := dk_28 (dk_at dksX2_truth_4 6 rfl rfl)
theorem dX2_truth_101 : decode cX2_truth 101 = .ok (.ifCond .eq 11, 3) := dk_153 0 11 (dk_at dksX2_truth_4 7 rfl rfl)
theorem dX2_truth_104 : decode cX2_truth 104 = .ok (.iload_n 3, 1) := dk_29 (dk_at dksX2_truth_4 10 rfl rfl)
theorem dX2_truth_105 : decode cX2_truth 105 = .ok (.ifCond .eq 7, 3) := dk_153 0 7 (dk_at dksX2_truth_4 11 rfl rfl)
theorem dX2_truth_108 : decode cX2_truth 108 = .ok (.iconst 2, 1) := dk_5 (dk_at dksX2_truth_4 14 rfl rfl)
theorem dX2_truth_109 : decode cX2_truth 109 = .ok (.goto 12, 3) := dk_167 0 12 (dk_at dksX2_truth_4 15 rfl rfl)
theorem dX2_truth_112 : decode cX2_truth 112 = .ok (.iload_n 2, 1) := dk_28 (dk_at dksX2_truth_4 18 rfl rfl)
theorem dX2_truth_113 : decode cX2_truth 113 = .ok (.ifCond .eq 7, 3) := dk_153 0 7 (dk_at dksX2_truth_4 19 rfl rfl)
theorem dX2_truth_116 : decode cX2_truth 116 = .ok (.iconst 1, 1) := dk_4 (dk_at dksX2_truth_4 22 rfl rfl)
theorem dX2_truth_117 : decode cX2_truth 117 = .ok (.goto 4, 3) := dk_167 0 4 (dk_at dksX2_truth_5 0 rfl rfl)
theorem dX2_truth_120 : decode cX2_truth 120 = .ok (.iconst 0, 1) := dk_3 (dk_at dksX2_truth_5 3 rfl rfl)
theorem dX2_truth_121 : decode cX2_truth 121 = .ok (.ireturn, 1) := dk_172 (dk_at dksX2_truth_5 4 rfl rfl)
theorem q133 : (Jvm.Cond.initialized "CoverHouse$Ways") ∈ lw_all := lw_g (lw_at lw_m1 6 rfl) rfl
theorem q258 : (Jvm.Cond.instantiable "CoverHouse$Ways" (7 : Nat)) ∈ lw_all := lw_g (lw_at lw_m1 131 rfl) rfl
theorem q260 : (Jvm.Cond.instanceMethod ({ cls := "CoverHouse$Ways", name := "<init>", desc := "(LCoverHouse;)V" } : Jvm.MethodName)) ∈ lw_all := lw_g (lw_at lw_m1 133 rfl) rfl
theorem q261 : (Jvm.Cond.code ({ cls := "CoverHouse$Ways", name := "<init>", desc := "(LCoverHouse;)V" } : Jvm.MethodName) prog_27_method_1_code (2 : Nat) (Option.none : Option Jvm.ClassFile.FieldType)) ∈ lw_all := lw_g (lw_at lw_m1 134 rfl) rfl
theorem q262 : (Jvm.Cond.methodLink "CoverHouse$Ways" (9 : Nat) ({ cls := "java/lang/Object", name := "<init>", desc := "()V" } : Jvm.MethodName)) ∈ lw_all := lw_g (lw_at lw_m1 135 rfl) rfl
theorem q263 : (Jvm.Cond.fieldLink "CoverHouse$Ways" (29 : Nat) "CoverHouse$Ways" "of" "LCoverHouse$Wording;") ∈ lw_all := lw_g (lw_at lw_m1 136 rfl) rfl
theorem q265 : (Jvm.Cond.fieldLink "CoverHouse$Ways" (15 : Nat) "CoverHouse$Ways" "cells" "[I") ∈ lw_all := lw_g (lw_at lw_m1 138 rfl) rfl
theorem q267 : (Jvm.Cond.fieldLink "CoverHouse$Ways" (33 : Nat) "CoverHouse$Ways" "known" "I") ∈ lw_all := lw_g (lw_at lw_m1 140 rfl) rfl
theorem q269 : (Jvm.Cond.fieldLink "CoverHouse$Ways" (19 : Nat) "CoverHouse$Ways" "units" "[I") ∈ lw_all := lw_g (lw_at lw_m1 142 rfl) rfl
theorem q271 : (Jvm.Cond.fieldLink "CoverHouse$Ways" (22 : Nat) "CoverHouse$Ways" "counts" "[I") ∈ lw_all := lw_g (lw_at lw_m1 144 rfl) rfl
theorem q273 : (Jvm.Cond.fieldLink "CoverHouse$Ways" (25 : Nat) "CoverHouse$Ways" "met" "[B") ∈ lw_all := lw_g (lw_at lw_m1 146 rfl) rfl
theorem q274 : (Jvm.Cond.fieldLink "CoverHouse$Ways" (3 : Nat) "CoverHouse$Ways" "this$0" "LCoverHouse;") ∈ lw_all := lw_g (lw_at lw_m1 147 rfl) rfl
theorem q275 : (Jvm.Cond.lays "CoverHouse$Ways" "CoverHouse$Ways" "of" "LCoverHouse$Wording;") ∈ lw_all := lw_g (lw_at lw_m1 148 rfl) rfl
theorem q276 : (Jvm.Cond.soleField "CoverHouse$Ways" "of") ∈ lw_all := lw_g (lw_at lw_m1 149 rfl) rfl
theorem q277 : (Jvm.Cond.laysFinal "CoverHouse$Ways" "CoverHouse$Ways" "cells" "[I") ∈ lw_all := lw_g (lw_at lw_m1 150 rfl) rfl
theorem q278 : (Jvm.Cond.soleField "CoverHouse$Ways" "cells") ∈ lw_all := lw_g (lw_at lw_m1 151 rfl) rfl
theorem q279 : (Jvm.Cond.lays "CoverHouse$Ways" "CoverHouse$Ways" "known" "I") ∈ lw_all := lw_g (lw_at lw_m1 152 rfl) rfl
theorem q280 : (Jvm.Cond.soleField "CoverHouse$Ways" "known") ∈ lw_all := lw_g (lw_at lw_m1 153 rfl) rfl
theorem q281 : (Jvm.Cond.laysFinal "CoverHouse$Ways" "CoverHouse$Ways" "units" "[I") ∈ lw_all := lw_g (lw_at lw_m1 154 rfl) rfl
theorem q282 : (Jvm.Cond.soleField "CoverHouse$Ways" "units") ∈ lw_all := lw_g (lw_at lw_m1 155 rfl) rfl
theorem q283 : (Jvm.Cond.laysFinal "CoverHouse$Ways" "CoverHouse$Ways" "counts" "[I") ∈ lw_all := lw_g (lw_at lw_m1 156 rfl) rfl
theorem q284 : (Jvm.Cond.soleField "CoverHouse$Ways" "counts") ∈ lw_all := lw_g (lw_at lw_m1 157 rfl) rfl
theorem q285 : (Jvm.Cond.laysFinal "CoverHouse$Ways" "CoverHouse$Ways" "met" "[B") ∈ lw_all := lw_g (lw_at lw_m1 158 rfl) rfl
theorem q286 : (Jvm.Cond.soleField "CoverHouse$Ways" "met") ∈ lw_all := lw_g (lw_at lw_m1 159 rfl) rfl
theorem q287 : (Jvm.Cond.laysFinal "CoverHouse$Ways" "CoverHouse$Ways" "this$0" "LCoverHouse;") ∈ lw_all := lw_g (lw_at lw_m1 160 rfl) rfl
theorem q288 : (Jvm.Cond.soleField "CoverHouse$Ways" "this$0") ∈ lw_all := lw_g (lw_at lw_m1 161 rfl) rfl
theorem q289 : (Jvm.Cond.superclass "CoverHouse$Ways" "java/lang/Object") ∈ lw_all := lw_g (lw_at lw_m1 162 rfl) rfl
theorem q309 : (Jvm.Cond.fieldLinkNest "CoverHouse$Ways" (71 : Nat) "CoverHouse$Starts" "size" "I" "CoverHouse") ∈ lw_tbl := lw_at lw_m1 182 rfl
theorem q382 : (Jvm.Cond.selects "CoverHouse$Ways" ({ cls := "java/lang/Object", name := "getClass", desc := "()Ljava/lang/Class;" } : Jvm.MethodName) ({ cls := "java/lang/Object", name := "getClass", desc := "()Ljava/lang/Class;" } : Jvm.MethodName)) ∈ lw_all := lw_g (lw_at lw_m2 15 rfl) rfl
theorem q458 : (Jvm.Cond.fieldLinkNest "CoverHouse$Ways" (107 : Nat) "CoverHouse" "full" "LCoverHouse$Full;" "CoverHouse") ∈ lw_tbl := lw_at lw_m2 91 rfl
theorem q575 : (Jvm.Cond.fieldLinkNest "CoverHouse$Ways" (37 : Nat) "CoverHouse$Wording" "facts" "Ljava/util/List;" "CoverHouse") ∈ lw_tbl := lw_at lw_m2 208 rfl
theorem q602 : (Jvm.Cond.fieldLinkNest "CoverHouse$Ways" (62 : Nat) "CoverHouse$Wording" "starts" "Ljava/util/List;" "CoverHouse") ∈ lw_tbl := lw_at lw_m2 235 rfl
theorem q604 : (Jvm.Cond.fieldLinkNest "CoverHouse$Ways" (73 : Nat) "CoverHouse$Wording" "cells" "I" "CoverHouse") ∈ lw_tbl := lw_at lw_m2 237 rfl
theorem q607 : (Jvm.Cond.fieldLinkNest "CoverHouse$Ways" (79 : Nat) "CoverHouse$Wording" "answers" "[B" "CoverHouse") ∈ lw_tbl := lw_at lw_m3 0 rfl
theorem q1455 : (Jvm.Cond.fieldLinkNest "CoverHouse$Ways" (49 : Nat) "CoverHouse$Event" "facts" "Ljava/util/List;" "CoverHouse") ∈ lw_tbl := lw_at lw_m6 128 rfl
theorem q1503 : (Jvm.Cond.instanceMethod ({ cls := "CoverHouse$Ways", name := "set", desc := "(LCoverHouse$Wording;LCoverHouse$Event;I)V" } : Jvm.MethodName)) ∈ lw_all := lw_g (lw_at lw_m6 176 rfl) rfl
theorem q1504 : (Jvm.Cond.selects "CoverHouse$Ways" ({ cls := "CoverHouse$Ways", name := "set", desc := "(LCoverHouse$Wording;LCoverHouse$Event;I)V" } : Jvm.MethodName) ({ cls := "CoverHouse$Ways", name := "set", desc := "(LCoverHouse$Wording;LCoverHouse$Event;I)V" } : Jvm.MethodName)) ∈ lw_all := lw_g (lw_at lw_m6 177 rfl) rfl
theorem q1505 : (Jvm.Cond.code ({ cls := "CoverHouse$Ways", name := "set", desc := "(LCoverHouse$Wording;LCoverHouse$Event;I)V" } : Jvm.MethodName) prog_27_method_2_code (7 : Nat) (Option.none : Option Jvm.ClassFile.FieldType)) ∈ lw_all := lw_g (lw_at lw_m6 178 rfl) rfl
theorem q1506 : (Jvm.Cond.interfaceEntry "CoverHouse$Ways" (43 : Nat)) ∈ lw_tbl := lw_at lw_m6 179 rfl
theorem q1507 : (Jvm.Cond.methodLink "CoverHouse$Ways" (43 : Nat) ({ cls := "java/util/List", name := "size", desc := "()I" } : Jvm.MethodName)) ∈ lw_all := lw_g (lw_at lw_m6 180 rfl) rfl
theorem q1508 : (Jvm.Cond.interfaceEntry "CoverHouse$Ways" (52 : Nat)) ∈ lw_tbl := lw_at lw_m6 181 rfl
theorem q1509 : (Jvm.Cond.methodLink "CoverHouse$Ways" (52 : Nat) ({ cls := "java/util/List", name := "get", desc := "(I)Ljava/lang/Object;" } : Jvm.MethodName)) ∈ lw_all := lw_g (lw_at lw_m6 182 rfl) rfl
theorem q1510 : (Jvm.Cond.classLink "CoverHouse$Ways" (56 : Nat) "CoverHouse$Known") ∈ lw_all := lw_g (lw_at lw_m6 183 rfl) rfl
theorem q1511 : (Jvm.Cond.methodLink "CoverHouse$Ways" (58 : Nat) ({ cls := "CoverHouse$Known", name := "on", desc := "(II)I" } : Jvm.MethodName)) ∈ lw_all := lw_g (lw_at lw_m6 184 rfl) rfl
theorem q1512 : (Jvm.Cond.classLink "CoverHouse$Ways" (65 : Nat) "CoverHouse$Starts") ∈ lw_all := lw_g (lw_at lw_m6 185 rfl) rfl
theorem q1513 : (Jvm.Cond.methodLink "CoverHouse$Ways" (67 : Nat) ({ cls := "CoverHouse$Starts", name := "cell", desc := "(I)I" } : Jvm.MethodName)) ∈ lw_all := lw_g (lw_at lw_m6 186 rfl) rfl
theorem q1515 : (Jvm.Cond.instanceMethod ({ cls := "CoverHouse$Ways", name := "answerBy", desc := "(I)I" } : Jvm.MethodName)) ∈ lw_all := lw_g (lw_at lw_m6 188 rfl) rfl
theorem q1516 : (Jvm.Cond.selects "CoverHouse$Ways" ({ cls := "CoverHouse$Ways", name := "answerBy", desc := "(I)I" } : Jvm.MethodName) ({ cls := "CoverHouse$Ways", name := "answerBy", desc := "(I)I" } : Jvm.MethodName)) ∈ lw_all := lw_g (lw_at lw_m6 189 rfl) rfl
theorem q1517 : (Jvm.Cond.code ({ cls := "CoverHouse$Ways", name := "answerBy", desc := "(I)I" } : Jvm.MethodName) prog_27_method_6_code (2 : Nat) (Option.some Jvm.ClassFile.FieldType.int)) ∈ lw_all := lw_g (lw_at lw_m6 190 rfl) rfl
theorem q1518 : (Jvm.Cond.methodLink "CoverHouse$Ways" (82 : Nat) ({ cls := "CoverHouse$Ways", name := "count", desc := "(I)V" } : Jvm.MethodName)) ∈ lw_all := lw_g (lw_at lw_m6 191 rfl) rfl
theorem q1519 : (Jvm.Cond.instanceMethod ({ cls := "CoverHouse$Ways", name := "count", desc := "(I)V" } : Jvm.MethodName)) ∈ lw_all := lw_g (lw_at lw_m6 192 rfl) rfl
theorem q1520 : (Jvm.Cond.selects "CoverHouse$Ways" ({ cls := "CoverHouse$Ways", name := "count", desc := "(I)V" } : Jvm.MethodName) ({ cls := "CoverHouse$Ways", name := "count", desc := "(I)V" } : Jvm.MethodName)) ∈ lw_all := lw_g (lw_at lw_m6 193 rfl) rfl
theorem q1521 : (Jvm.Cond.code ({ cls := "CoverHouse$Ways", name := "count", desc := "(I)V" } : Jvm.MethodName) prog_27_method_4_code (3 : Nat) (Option.none : Option Jvm.ClassFile.FieldType)) ∈ lw_all := lw_g (lw_at lw_m6 194 rfl) rfl
theorem q1522 : (Jvm.Cond.methodLink "CoverHouse$Ways" (75 : Nat) ({ cls := "CoverHouse$Ways", name := "isOne", desc := "(II)Z" } : Jvm.MethodName)) ∈ lw_all := lw_g (lw_at lw_m6 195 rfl) rfl
theorem q1523 : (Jvm.Cond.privateMethod ({ cls := "CoverHouse$Ways", name := "isOne", desc := "(II)Z" } : Jvm.MethodName)) ∈ lw_tbl := lw_at lw_m6 196 rfl
theorem q1524 : (Jvm.Cond.instanceMethod ({ cls := "CoverHouse$Ways", name := "isOne", desc := "(II)Z" } : Jvm.MethodName)) ∈ lw_all := lw_g (lw_at lw_m6 197 rfl) rfl
theorem q1525 : (Jvm.Cond.code ({ cls := "CoverHouse$Ways", name := "isOne", desc := "(II)Z" } : Jvm.MethodName) prog_27_method_3_code (4 : Nat) (Option.some Jvm.ClassFile.FieldType.boolean)) ∈ lw_all := lw_g (lw_at lw_m6 198 rfl) rfl
theorem q1526 : (Jvm.Cond.methodLink "CoverHouse$Ways" (86 : Nat) ({ cls := "CoverHouse$Ways", name := "answer", desc := "()I" } : Jvm.MethodName)) ∈ lw_all := lw_g (lw_at lw_m6 199 rfl) rfl
theorem q1527 : (Jvm.Cond.instanceMethod ({ cls := "CoverHouse$Ways", name := "answer", desc := "()I" } : Jvm.MethodName)) ∈ lw_all := lw_g (lw_at lw_m6 200 rfl) rfl
theorem q1528 : (Jvm.Cond.selects "CoverHouse$Ways" ({ cls := "CoverHouse$Ways", name := "answer", desc := "()I" } : Jvm.MethodName) ({ cls := "CoverHouse$Ways", name := "answer", desc := "()I" } : Jvm.MethodName)) ∈ lw_all := lw_g (lw_at lw_m6 201 rfl) rfl
theorem q1529 : (Jvm.Cond.code ({ cls := "CoverHouse$Ways", name := "answer", desc := "()I" } : Jvm.MethodName) prog_27_method_5_code (1 : Nat) (Option.some Jvm.ClassFile.FieldType.int)) ∈ lw_all := lw_g (lw_at lw_m6 202 rfl) rfl
theorem q1535 : (Jvm.Cond.instanceMethod ({ cls := "CoverHouse$Ways", name := "least", desc := "(Z)I" } : Jvm.MethodName)) ∈ lw_all := lw_g (lw_at lw_m6 208 rfl) rfl
theorem q1536 : (Jvm.Cond.selects "CoverHouse$Ways" ({ cls := "CoverHouse$Ways", name := "least", desc := "(Z)I" } : Jvm.MethodName) ({ cls := "CoverHouse$Ways", name := "least", desc := "(Z)I" } : Jvm.MethodName)) ∈ lw_all := lw_g (lw_at lw_m6 209 rfl) rfl
theorem q1537 : (Jvm.Cond.code ({ cls := "CoverHouse$Ways", name := "least", desc := "(Z)I" } : Jvm.MethodName) prog_27_method_9_code (6 : Nat) (Option.some Jvm.ClassFile.FieldType.int)) ∈ lw_all := lw_g (lw_at lw_m6 210 rfl) rfl
theorem q1538 : (Jvm.Cond.methodLink "CoverHouse$Ways" (97 : Nat) ({ cls := "CoverHouse$Ways", name := "isBefore", desc := "(II)Z" } : Jvm.MethodName)) ∈ lw_all := lw_g (lw_at lw_m6 211 rfl) rfl
theorem q1539 : (Jvm.Cond.instanceMethod ({ cls := "CoverHouse$Ways", name := "isBefore", desc := "(II)Z" } : Jvm.MethodName)) ∈ lw_all := lw_g (lw_at lw_m6 212 rfl) rfl
theorem q1540 : (Jvm.Cond.selects "CoverHouse$Ways" ({ cls := "CoverHouse$Ways", name := "isBefore", desc := "(II)Z" } : Jvm.MethodName) ({ cls := "CoverHouse$Ways", name := "isBefore", desc := "(II)Z" } : Jvm.MethodName)) ∈ lw_all := lw_g (lw_at lw_m6 213 rfl) rfl
theorem q1541 : (Jvm.Cond.code ({ cls := "CoverHouse$Ways", name := "isBefore", desc := "(II)Z" } : Jvm.MethodName) prog_27_method_8_code (4 : Nat) (Option.some Jvm.ClassFile.FieldType.boolean)) ∈ lw_all := lw_g (lw_at lw_m6 214 rfl) rfl
theorem q1542 : (Jvm.Cond.methodLink "CoverHouse$Ways" (89 : Nat) ({ cls := "java/lang/Integer", name := "bitCount", desc := "(I)I" } : Jvm.MethodName)) ∈ lw_all := lw_g (lw_at lw_m6 215 rfl) rfl
theorem q1548 : (Jvm.Cond.methodLink "CoverHouse$Ways" (94 : Nat) ({ cls := "java/lang/Integer", name := "lowestOneBit", desc := "(I)I" } : Jvm.MethodName)) ∈ lw_all := lw_g (lw_at lw_m6 221 rfl) rfl
theorem q1551 : (Jvm.Cond.methodLink "CoverHouse$Ways" (100 : Nat) ({ cls := "CoverHouse$Ways", name := "answerBy", desc := "(I)I" } : Jvm.MethodName)) ∈ lw_all := lw_g (lw_at lw_m6 224 rfl) rfl
theorem q1552 : (Jvm.Cond.methodLink "CoverHouse$Ways" (103 : Nat) ({ cls := "CoverHouse$Ways", name := "settles", desc := "(I)Z" } : Jvm.MethodName)) ∈ lw_all := lw_g (lw_at lw_m6 225 rfl) rfl
theorem q1553 : (Jvm.Cond.instanceMethod ({ cls := "CoverHouse$Ways", name := "settles", desc := "(I)Z" } : Jvm.MethodName)) ∈ lw_all := lw_g (lw_at lw_m6 226 rfl) rfl
theorem q1554 : (Jvm.Cond.selects "CoverHouse$Ways" ({ cls := "CoverHouse$Ways", name := "settles", desc := "(I)Z" } : Jvm.MethodName) ({ cls := "CoverHouse$Ways", name := "settles", desc := "(I)Z" } : Jvm.MethodName)) ∈ lw_all := lw_g (lw_at lw_m6 227 rfl) rfl
theorem q1555 : (Jvm.Cond.code ({ cls := "CoverHouse$Ways", name := "settles", desc := "(I)Z" } : Jvm.MethodName) prog_27_method_7_code (5 : Nat) (Option.some Jvm.ClassFile.FieldType.boolean)) ∈ lw_all := lw_g (lw_at lw_m6 228 rfl) rfl
theorem q1575 : (Jvm.Cond.instanceMethod ({ cls := "CoverHouse$Ways", name := "truth", desc := "(LCoverHouse$Cond;)I" } : Jvm.MethodName)) ∈ lw_all := lw_g (lw_at lw_m7 8 rfl) rfl
theorem q1576 : (Jvm.Cond.selects "CoverHouse$Ways" ({ cls := "CoverHouse$Ways", name := "truth", desc := "(LCoverHouse$Cond;)I" } : Jvm.MethodName) ({ cls := "CoverHouse$Ways", name := "truth", desc := "(LCoverHouse$Cond;)I" } : Jvm.MethodName)) ∈ lw_all := lw_g (lw_at lw_m7 9 rfl) rfl
theorem q1577 : (Jvm.Cond.code ({ cls := "CoverHouse$Ways", name := "truth", desc := "(LCoverHouse$Cond;)I" } : Jvm.MethodName) prog_27_method_10_code (5 : Nat) (Option.some Jvm.ClassFile.FieldType.int)) ∈ lw_all := lw_g (lw_at lw_m7 10 rfl) rfl
theorem q1578 : (Jvm.Cond.methodLink "CoverHouse$Ways" (111 : Nat) ({ cls := "CoverHouse$Wording", name := "way", desc := "(ILCoverHouse$Full;)V" } : Jvm.MethodName)) ∈ lw_all := lw_g (lw_at lw_m7 11 rfl) rfl
theorem q1579 : (Jvm.Cond.methodLink "CoverHouse$Ways" (115 : Nat) ({ cls := "CoverHouse$Wording", name := "mean", desc := "(LCoverHouse$Full;)V" } : Jvm.MethodName)) ∈ lw_all := lw_g (lw_at lw_m7 12 rfl) rfl
theorem q1580 : (Jvm.Cond.methodLink "CoverHouse$Ways" (119 : Nat) ({ cls := "CoverHouse$Cond", name := "isTrue", desc := "(LCoverHouse$Full;)Z" } : Jvm.MethodName)) ∈ lw_all := lw_g (lw_at lw_m7 13 rfl) rfl
theorem q2692 : (Jvm.Cond.castable "CoverHouse$Ways" "java/lang/Object") ∈ lw_tbl := lw_at lw_m11 165 rfl
theorem in_X2 : ∀ w ∈ wsX20, w ∈ lw_all := lw_in wsX20 [275, 277, 279, 281, 283, 285, 287] (by decide +kernel) (by decide +kernel)

/-! CoverHouse$Joint -/
set_option maxRecDepth 100000
def RX3 : String := "CoverHouse$Joint"
def TX3 : u_T := fun k => match k with
  | 0 => ("CoverHouse$Joint", "starts", "Ljava/util/List;", true)
  | 1 => ("CoverHouse$Joint", "facts", "I", false)
  | 2 => ("CoverHouse$Joint", "cells", "J", false)
  | 3 => ("CoverHouse$Joint", "apart", "[I", true)
  | 4 => ("CoverHouse$Joint", "isApart", "[Z", true)
  | 5 => ("CoverHouse$Joint", "apartFacts", "I", false)
  | 6 => ("CoverHouse$Joint", "shown", "[I", true)
  | 7 => ("CoverHouse$Joint", "isShown", "Z", false)
  | 8 => ("CoverHouse$Joint", "shownFacts", "I", false)
  | _ => ("CoverHouse$Joint", "this$0", "LCoverHouse;", true)
def tyX3 : Nat → FieldType := fun k => match k with
  | 0 => .object "java/util/List"
  | 1 => .int
  | 2 => .long
  | 3 => .array .int
  | 4 => .array .boolean
  | 5 => .int
  | 6 => .array .int
  | 7 => .boolean
  | 8 => .int
  | _ => .object "CoverHouse"
abbrev wsX30 : List Cond := u_ws RX3 TX3 10
theorem nmX3 : ∀ a, a < 10 → ∀ b, b < 10 → a ≠ b → (TX3 a).2.1 ≠ (TX3 b).2.1 := by decide +kernel
theorem tyX3_ok : ∀ k, k < 10 → parseFieldDescriptor (TX3 k).2.2.1 = some (tyX3 k) := by decide +kernel
abbrev cX3_init : ByteArray := prog_10_method_1_code
def yX3_init : MethodName := ⟨RX3, "<init>", "(LCoverHouse;)V"⟩
def dkwX3_init_3 : List UInt8 := [87, 132, 2, 1, 167, 255, 227, 177]
abbrev dktX3_init_3 : List UInt8 := dkwX3_init_3 ++ []
def dkwX3_init_2 : List UInt8 := [16, 8, 162, 0, 29, 42, 180, 0, 18, 187, 0, 33, 89, 17, 4, 196, 183, 0, 35, 185, 0, 38, 2, 0]
abbrev dktX3_init_2 : List UInt8 := dkwX3_init_2 ++ dktX3_init_3
def dkwX3_init_1 : List UInt8 := [188, 10, 181, 0, 22, 42, 5, 188, 4, 181, 0, 26, 42, 16, 8, 188, 10, 181, 0, 30, 3, 61, 28]
abbrev dktX3_init_1 : List UInt8 := dkwX3_init_1 ++ dktX3_init_2
def dkwX3_init_0 : List UInt8 := [42, 43, 181, 0, 3, 42, 183, 0, 9, 42, 187, 0, 15, 89, 183, 0, 17, 181, 0, 18, 42, 16, 16]
abbrev dktX3_init_0 : List UInt8 := dkwX3_init_0 ++ dktX3_init_1
theorem dksX3_init_0 : cX3_init.data.toList.drop 0 = dktX3_init_0 := by decide +kernel
theorem dksX3_init_1 : cX3_init.data.toList.drop 23 = dktX3_init_1 := dk_seg dksX3_init_0 23 rfl rfl
theorem dksX3_init_2 : cX3_init.data.toList.drop 46 = dktX3_init_2 := dk_seg dksX3_init_1 23 rfl rfl
theorem dksX3_init_3 : cX3_init.data.toList.drop 70 = dktX3_init_3 := dk_seg dksX3_init_2 24 rfl rfl
theorem dX3_init_0 : decode cX3_init 0 = .ok (.aload_n 0, 1) := dk_42 (dk_at dksX3_init_0 0 rfl rfl)
theorem dX3_init_1 : decode cX3_init 1 = .ok (.aload_n 1, 1) := dk_43 (dk_at dksX3_init_0 1 rfl rfl)
theorem dX3_init_2 : decode cX3_init 2 = .ok (.putfield 3, 3) := dk_181 0 3 (dk_at dksX3_init_0 2 rfl rfl)
theorem dX3_init_5 : decode cX3_init 5 = .ok (.aload_n 0, 1) := dk_42 (dk_at dksX3_init_0 5 rfl rfl)
theorem dX3_init_6 : decode cX3_init 6 = .ok (.invokespecial 9, 3) := dk_183 0 9 (dk_at dksX3_init_0 6 rfl rfl)
theorem dX3_init_9 : decode cX3_init 9 = .ok (.aload_n 0, 1) := dk_42 (dk_at dksX3_init_0 9 rfl rfl)
theorem dX3_init_10 : decode cX3_init 10 = .ok (.new 15, 3) := dk_187 0 15 (dk_at dksX3_init_0 10 rfl rfl)
theorem dX3_init_13 : decode cX3_init 13 = .ok (.dup, 1) := dk_89 (dk_at dksX3_init_0 13 rfl rfl)
theorem dX3_init_14 : decode cX3_init 14 = .ok (.invokespecial 17, 3) := dk_183 0 17 (dk_at dksX3_init_0 14 rfl rfl)
theorem dX3_init_17 : decode cX3_init 17 = .ok (.putfield 18, 3) := dk_181 0 18 (dk_at dksX3_init_0 17 rfl rfl)
theorem dX3_init_20 : decode cX3_init 20 = .ok (.aload_n 0, 1) := dk_42 (dk_at dksX3_init_0 20 rfl rfl)
theorem dX3_init_21 : decode cX3_init 21 = .ok (.bipush 16, 2) := dk_16 16 (dk_at dksX3_init_0 21 rfl rfl)
theorem dX3_init_23 : decode cX3_init 23 = .ok (.newarray .int, 2) := dk_188_10 (dk_at dksX3_init_1 0 rfl rfl)
theorem dX3_init_25 : decode cX3_init 25 = .ok (.putfield 22, 3) := dk_181 0 22 (dk_at dksX3_init_1 2 rfl rfl)
theorem dX3_init_28 : decode cX3_init 28 = .ok (.aload_n 0, 1) := dk_42 (dk_at dksX3_init_1 5 rfl rfl)
theorem dX3_init_29 : decode cX3_init 29 = .ok (.iconst 2, 1) := dk_5 (dk_at dksX3_init_1 6 rfl rfl)
theorem dX3_init_30 : decode cX3_init 30 = .ok (.newarray .boolean, 2) := dk_188_4 (dk_at dksX3_init_1 7 rfl rfl)
theorem dX3_init_32 : decode cX3_init 32 = .ok (.putfield 26, 3) := dk_181 0 26 (dk_at dksX3_init_1 9 rfl rfl)
theorem dX3_init_35 : decode cX3_init 35 = .ok (.aload_n 0, 1) := dk_42 (dk_at dksX3_init_1 12 rfl rfl)
theorem dX3_init_36 : decode cX3_init 36 = .ok (.bipush 8, 2) := dk_16 8 (dk_at dksX3_init_1 13 rfl rfl)
theorem dX3_init_38 : decode cX3_init 38 = .ok (.newarray .int, 2) := dk_188_10 (dk_at dksX3_init_1 15 rfl rfl)
theorem dX3_init_40 : decode cX3_init 40 = .ok (.putfield 30, 3) := dk_181 0 30 (dk_at dksX3_init_1 17 rfl rfl)
theorem dX3_init_43 : decode cX3_init 43 = .ok (.iconst 0, 1) := dk_3 (dk_at dksX3_init_1 20 rfl rfl)
theorem dX3_init_44 : decode cX3_init 44 = .ok (.istore_n 2, 1) := dk_61 (dk_at dksX3_init_1 21 rfl rfl)
theorem dX3_init_45 : decode cX3_init 45 = .ok (.iload_n 2, 1) := dk_28 (dk_at dksX3_init_1 22 rfl rfl)
theorem dX3_init_46 : decode cX3_init 46 = .ok (.bipush 8, 2) := dk_16 8 (dk_at dksX3_init_2 0 rfl rfl)
theorem dX3_init_48 : decode cX3_init 48 = .ok (.if_icmp .ge 29, 3) := dk_162 0 29 (dk_at dksX3_init_2 2 rfl rfl)
theorem dX3_init_51 : decode cX3_init 51 = .ok (.aload_n 0, 1) := dk_42 (dk_at dksX3_init_2 5 rfl rfl)
theorem dX3_init_52 : decode cX3_init 52 = .ok (.getfield 18, 3) := dk_180 0 18 (dk_at dksX3_init_2 6 rfl rfl)
theorem dX3_init_55 : decode cX3_init 55 = .ok (.new 33, 3) := dk_187 0 33 (dk_at dksX3_init_2 9 rfl rfl)
theorem dX3_init_58 : decode cX3_init 58 = .ok (.dup, 1) := dk_89 (dk_at dksX3_init_2 12 rfl rfl)
theorem dX3_init_59 : decode cX3_init 59 = .ok (.sipush 1220, 3) := dk_17 4 196 (dk_at dksX3_init_2 13 rfl rfl)
theorem dX3_init_62 : decode cX3_init 62 = .ok (.invokespecial 35, 3) := dk_183 0 35 (dk_at dksX3_init_2 16 rfl rfl)
theorem dX3_init_65 : decode cX3_init 65 = .ok (.invokeinterface 38 2, 5) := by decide +kernel
theorem dX3_init_70 : decode cX3_init 70 = .ok (.pop, 1) := dk_87 (dk_at dksX3_init_3 0 rfl rfl)
theorem dX3_init_71 : decode cX3_init 71 = .ok (.iinc 2 1, 3) := dk_132 2 1 (dk_at dksX3_init_3 1 rfl rfl)
theorem dX3_init_74 : decode cX3_init 74 = .ok (.goto (-29), 3) := dk_167 255 227 (dk_at dksX3_init_3 4 rfl rfl)
theorem dX3_init_77 : decode cX3_init 77 = .ok (.return_, 1) := dk_177 (dk_at dksX3_init_3 7 rfl rfl)
abbrev cX3_isParted : ByteArray := prog_10_method_2_code
def yX3_isParted : MethodName := ⟨RX3, "isParted", "(LCoverHouse$Wording;LCoverHouse$Wording;LCoverHouse$Cond;)Z"⟩
def dkwX3_isParted_5 : List UInt8 := [132, 4, 1, 167, 255, 156, 42, 180, 0, 56, 20, 0, 87, 148, 157, 0, 7, 4, 167, 0, 4, 3, 172]
abbrev dktX3_isParted_5 : List UInt8 := dkwX3_isParted_5 ++ []
def dkwX3_isParted_4 : List UInt8 := [182, 0, 74, 42, 42, 180, 0, 56, 25, 5, 180, 0, 77, 133, 105, 20, 0, 79, 184, 0, 81, 181, 0, 56]
abbrev dktX3_isParted_4 : List UInt8 := dkwX3_isParted_4 ++ dktX3_isParted_5
def dkwX3_isParted_3 : List UInt8 := [182, 0, 70, 44, 198, 0, 11, 44, 21, 4, 25, 5, 182, 0, 70, 45, 198, 0, 11, 45, 21, 4, 25, 5]
abbrev dktX3_isParted_3 : List UInt8 := dkwX3_isParted_3 ++ dktX3_isParted_4
def dkwX3_isParted_2 : List UInt8 := [43, 180, 0, 44, 21, 4, 185, 0, 60, 2, 0, 192, 0, 64, 182, 0, 66, 43, 21, 4, 25, 5]
abbrev dktX3_isParted_2 : List UInt8 := dkwX3_isParted_2 ++ dktX3_isParted_3
def dkwX3_isParted_1 : List UInt8 := [180, 0, 53, 162, 0, 97, 42, 180, 0, 18, 21, 4, 185, 0, 60, 2, 0, 192, 0, 33, 58, 5, 25, 5]
abbrev dktX3_isParted_1 : List UInt8 := dkwX3_isParted_1 ++ dktX3_isParted_2
def dkwX3_isParted_0 : List UInt8 := [42, 43, 180, 0, 44, 185, 0, 49, 1, 0, 181, 0, 53, 42, 10, 181, 0, 56, 3, 54, 4, 21, 4, 42]
abbrev dktX3_isParted_0 : List UInt8 := dkwX3_isParted_0 ++ dktX3_isParted_1
theorem dksX3_isParted_0 : cX3_isParted.data.toList.drop 0 = dktX3_isParted_0 := by decide +kernel
theorem dksX3_isParted_1 : cX3_isParted.data.toList.drop 24 = dktX3_isParted_1 := dk_seg dksX3_isParted_0 24 rfl rfl
theorem dksX3_isParted_2 : cX3_isParted.data.toList.drop 48 = dktX3_isParted_2 := dk_seg dksX3_isParted_1 24 rfl rfl
theorem dksX3_isParted_3 : cX3_isParted.data.toList.drop 70 = dktX3_isParted_3 := dk_seg dksX3_isParted_2 22 rfl rfl
theorem dksX3_isParted_4 : cX3_isParted.data.toList.drop 94 = dktX3_isParted_4 := dk_seg dksX3_isParted_3 24 rfl rfl
theorem dksX3_isParted_5 : cX3_isParted.data.toList.drop 118 = dktX3_isParted_5 := dk_seg dksX3_isParted_4 24 rfl rfl
theorem dX3_isParted_0 : decode cX3_isParted 0 = .ok (.aload_n 0, 1) := dk_42 (dk_at dksX3_isParted_0 0 rfl rfl)
theorem dX3_isParted_1 : decode cX3_isParted 1 = .ok (.aload_n 1, 1) := dk_43 (dk_at dksX3_isParted_0 1 rfl rfl)
theorem dX3_isParted_2 : decode cX3_isParted 2 = .ok (.getfield 44, 3) := dk_180 0 44 (dk_at dksX3_isParted_0 2 rfl rfl)
theorem dX3_isParted_5 : decode cX3_isParted 5 = .ok (.invokeinterface 49 1, 5) := by decide +kernel
theorem dX3_isParted_10 : decode cX3_isParted 10 = .ok (.putfield 53, 3) := dk_181 0 53 (dk_at dksX3_isParted_0 10 rfl rfl)
theorem dX3_isParted_13 : decode cX3_isParted 13 = .ok (.aload_n 0, 1) := dk_42 (dk_at dksX3_isParted_0 13 rfl rfl)
theorem dX3_isParted_14 : decode cX3_isParted 14 = .ok (.lconst 1, 1) := dk_10 (dk_at dksX3_isParted_0 14 rfl rfl)
theorem dX3_isParted_15 : decode cX3_isParted 15 = .ok (.putfield 56, 3) := dk_181 0 56 (dk_at dksX3_isParted_0 15 rfl rfl)
theorem dX3_isParted_18 : decode cX3_isParted 18 = .ok (.iconst 0, 1) := dk_3 (dk_at dksX3_isParted_0 18 rfl rfl)
theorem dX3_isParted_19 : decode cX3_isParted 19 = .ok (.istore 4, 2) := dk_54 4 (dk_at dksX3_isParted_0 19 rfl rfl)
theorem dX3_isParted_21 : decode cX3_isParted 21 = .ok (.iload 4, 2) := dk_21 4 (dk_at dksX3_isParted_0 21 rfl rfl)
theorem dX3_isParted_23 : decode cX3_isParted 23 = .ok (.aload_n 0, 1) := dk_42 (dk_at dksX3_isParted_0 23 rfl rfl)
theorem dX3_isParted_24 : decode cX3_isParted 24 = .ok (.getfield 53, 3) := dk_180 0 53 (dk_at dksX3_isParted_1 0 rfl rfl)
theorem dX3_isParted_27 : decode cX3_isParted 27 = .ok (.if_icmp .ge 97, 3) := dk_162 0 97 (dk_at dksX3_isParted_1 3 rfl rfl)
theorem dX3_isParted_30 : decode cX3_isParted 30 = .ok (.aload_n 0, 1) := dk_42 (dk_at dksX3_isParted_1 6 rfl rfl)
theorem dX3_isParted_31 : decode cX3_isParted 31 = .ok (.getfield 18, 3) := dk_180 0 18 (dk_at dksX3_isParted_1 7 rfl rfl)
theorem dX3_isParted_34 : decode cX3_isParted 34 = .ok (.iload 4, 2) := dk_21 4 (dk_at dksX3_isParted_1 10 rfl rfl)
theorem dX3_isParted_36 : decode cX3_isParted 36 = .ok (.invokeinterface 60 2, 5) := by decide +kernel
theorem dX3_isParted_41 : decode cX3_isParted 41 = .ok (.checkcast 33, 3) := dk_192 0 33 (dk_at dksX3_isParted_1 17 rfl rfl)
theorem dX3_isParted_44 : decode cX3_isParted 44 = .ok (.astore 5, 2) := dk_58 5 (dk_at dksX3_isParted_1 20 rfl rfl)
theorem dX3_isParted_46 : decode cX3_isParted 46 = .ok (.aload 5, 2) := dk_25 5 (dk_at dksX3_isParted_1 22 rfl rfl)
theorem dX3_isParted_48 : decode cX3_isParted 48 = .ok (.aload_n 1, 1) := dk_43 (dk_at dksX3_isParted_2 0 rfl rfl)
theorem dX3_isParted_49 : decode cX3_isParted 49 = .ok (.getfield 44, 3) := dk_180 0 44 (dk_at dksX3_isParted_2 1 rfl rfl)
theorem dX3_isParted_52 : decode cX3_isParted 52 = .ok (.iload 4, 2) := dk_21 4 (dk_at dksX3_isParted_2 4 rfl rfl)
theorem dX3_isParted_54 : decode cX3_isParted 54 = .ok (.invokeinterface 60 2, 5) := by decide +kernel
theorem dX3_isParted_59 : decode cX3_isParted 59 = .ok (.checkcast 64, 3) := dk_192 0 64 (dk_at dksX3_isParted_2 11 rfl rfl)
theorem dX3_isParted_62 : decode cX3_isParted 62 = .ok (.invokevirtual 66, 3) := dk_182 0 66 (dk_at dksX3_isParted_2 14 rfl rfl)
theorem dX3_isParted_65 : decode cX3_isParted 65 = .ok (.aload_n 1, 1) := dk_43 (dk_at dksX3_isParted_2 17 rfl rfl)
theorem dX3_isParted_66 : decode cX3_isParted 66 = .ok (.iload 4, 2) := dk_21 4 (dk_at dksX3_isParted_2 18 rfl rfl)
theorem dX3_isParted_68 : decode cX3_isParted 68 = .ok (.aload 5, 2) := dk_25 5 (dk_at dksX3_isParted_2 20 rfl rfl)
theorem dX3_isParted_70 : decode cX3_isParted 70 = .ok (.invokevirtual 70, 3) := dk_182 0 70 (dk_at dksX3_isParted_3 0 rfl rfl)
theorem dX3_isParted_73 : decode cX3_isParted 73 = .ok (.aload_n 2, 1) := dk_44 (dk_at dksX3_isParted_3 3 rfl rfl)
theorem dX3_isParted_74 : decode cX3_isParted 74 = .ok (.ifnull 11, 3) := dk_198 0 11 (dk_at dksX3_isParted_3 4 rfl rfl)
theorem dX3_isParted_77 : decode cX3_isParted 77 = .ok (.aload_n 2, 1) := dk_44 (dk_at dksX3_isParted_3 7 rfl rfl)
theorem dX3_isParted_78 : decode cX3_isParted 78 = .ok (.iload 4, 2) := dk_21 4 (dk_at dksX3_isParted_3 8 rfl rfl)
theorem dX3_isParted_80 : decode cX3_isParted 80 = .ok (.aload 5, 2) := dk_25 5 (dk_at dksX3_isParted_3 10 rfl rfl)
theorem dX3_isParted_82 : decode cX3_isParted 82 = .ok (.invokevirtual 70, 3) := dk_182 0 70 (dk_at dksX3_isParted_3 12 rfl rfl)
theorem dX3_isParted_85 : decode cX3_isParted 85 = .ok (.aload_n 3, 1) := dk_45 (dk_at dksX3_isParted_3 15 rfl rfl)
theorem dX3_isParted_86 : decode cX3_isParted 86 = .ok (.ifnull 11, 3) := dk_198 0 11 (dk_at dksX3_isParted_3 16 rfl rfl)
theorem dX3_isParted_89 : decode cX3_isParted 89 = .ok (.aload_n 3, 1) := dk_45 (dk_at dksX3_isParted_3 19 rfl rfl)
theorem dX3_isParted_90 : decode cX3_isParted 90 = .ok (.iload 4, 2) := dk_21 4 (dk_at dksX3_isParted_3 20 rfl rfl)
theorem dX3_isParted_92 : decode cX3_isParted 92 = .ok (.aload 5, 2) := dk_25 5 (dk_at dksX3_isParted_3 22 rfl rfl)
theorem dX3_isParted_94 : decode cX3_isParted 94 = .ok (.invokevirtual 74, 3) := dk_182 0 74 (dk_at dksX3_isParted_4 0 rfl rfl)
theorem dX3_isParted_97 : decode cX3_isParted 97 = .ok (.aload_n 0, 1) := dk_42 (dk_at dksX3_isParted_4 3 rfl rfl)
theorem dX3_isParted_98 : decode cX3_isParted 98 = .ok (.aload_n 0, 1) := dk_42 (dk_at dksX3_isParted_4 4 rfl rfl)
theorem dX3_isParted_99 : decode cX3_isParted 99 = .ok (.getfield 56, 3) := dk_180 0 56 (dk_at dksX3_isParted_4 5 rfl rfl)
theorem dX3_isParted_102 : decode cX3_isParted 102 = .ok (.aload 5, 2) := dk_25 5 (dk_at dksX3_isParted_4 8 rfl rfl)
theorem dX3_isParted_104 : decode cX3_isParted 104 = .ok (.getfield 77, 3) := dk_180 0 77 (dk_at dksX3_isParted_4 10 rfl rfl)
theorem dX3_isParted_107 : decode cX3_isParted 107 = .ok (.i2l, 1) := dk_133 (dk_at dksX3_isParted_4 13 rfl rfl)
theorem dX3_isParted_108 : decode cX3_isParted 108 = .ok (.lmul, 1) := dk_105 (dk_at dksX3_isParted_4 14 rfl rfl)
theorem dX3_isParted_109 : decode cX3_isParted 109 = .ok (.ldc2_w 79, 3) := dk_20 0 79 (dk_at dksX3_isParted_4 15 rfl rfl)
theorem dX3_isParted_112 : decode cX3_isParted 112 = .ok (.invokestatic 81, 3) := dk_184 0 81 (dk_at dksX3_isParted_4 18 rfl rfl)
theorem dX3_isParted_115 : decode cX3_isParted 115 = .ok (.putfield 56, 3) := dk_181 0 56 (dk_at dksX3_isParted_4 21 rfl rfl)
theorem dX3_isParted_118 : decode cX3_isParted 118 = .ok (.iinc 4 1, 3) := dk_132 4 1 (dk_at dksX3_isParted_5 0 rfl rfl)
theorem dX3_isParted_121 : decode cX3_isParted 121 = .ok (.goto (-100), 3) := dk_167 255 156 (dk_at dksX3_isParted_5 3 rfl rfl)
theorem dX3_isParted_124 : decode cX3_isParted 124 = .ok (.aload_n 0, 1) := dk_42 (dk_at dksX3_isParted_5 6 rfl rfl)
theorem dX3_isParted_125 : decode cX3_isParted 125 = .ok (.getfield 56, 3) := dk_180 0 56 (dk_at dksX3_isParted_5 7 rfl rfl)
theorem dX3_isParted_128 : decode cX3_isParted 128 = .ok (.ldc2_w 87, 3) := dk_20 0 87 (dk_at dksX3_isParted_5 10 rfl rfl)
theorem dX3_isParted_131 : decode cX3_isParted 131 = .ok (.lcmp, 1) := dk_148 (dk_at dksX3_isParted_5 13 rfl rfl)
theorem dX3_isParted_132 : decode cX3_isParted 132 = .ok (.ifCond .gt 7, 3) := dk_157 0 7 (dk_at dksX3_isParted_5 14 rfl rfl)
theorem dX3_isParted_135 : decode cX3_isParted 135 = .ok (.iconst 1, 1) := dk_4 (dk_at dksX3_isParted_5 17 rfl rfl)
theorem dX3_isParted_136 : decode cX3_isParted 136 = .ok (.goto 4, 3) := dk_167 0 4 (dk_at dksX3_isParted_5 18 rfl rfl)
theorem dX3_isParted_139 : decode cX3_isParted 139 = .ok (.iconst 0, 1) := dk_3 (dk_at dksX3_isParted_5 21 rfl rfl)
theorem dX3_isParted_140 : decode cX3_isParted 140 = .ok (.ireturn, 1) := dk_172 (dk_at dksX3_isParted_5 22 rfl rfl)
abbrev cX3_compare : ByteArray := prog_10_method_5_code
def yX3_compare : MethodName := ⟨RX3, "compare", "(LCoverHouse$Wording;LCoverHouse$Wording;)I"⟩
def dkwX3_compare_5 : List UInt8 := [180, 0, 26, 4, 51, 153, 0, 7, 5, 167, 0, 4, 3, 96, 172]
abbrev dktX3_compare_5 : List UInt8 := dkwX3_compare_5 ++ []
def dkwX3_compare_4 : List UInt8 := [182, 0, 115, 132, 3, 1, 167, 255, 179, 42, 180, 0, 26, 3, 51, 153, 0, 7, 4, 167, 0, 4, 3, 42]
abbrev dktX3_compare_4 : List UInt8 := dkwX3_compare_4 ++ dktX3_compare_5
def dkwX3_compare_3 : List UInt8 := [51, 54, 5, 21, 4, 21, 5, 159, 0, 19, 42, 21, 4, 21, 5, 164, 0, 7, 3, 167, 0, 4, 4]
abbrev dktX3_compare_3 : List UInt8 := dkwX3_compare_3 ++ dktX3_compare_4
def dkwX3_compare_2 : List UInt8 := [180, 0, 89, 182, 0, 111, 51, 54, 4, 44, 180, 0, 107, 44, 42, 180, 0, 3, 180, 0, 89, 182, 0, 111]
abbrev dktX3_compare_2 : List UInt8 := dkwX3_compare_2 ++ dktX3_compare_3
def dkwX3_compare_1 : List UInt8 := [29, 133, 42, 180, 0, 56, 148, 156, 0, 73, 42, 29, 182, 0, 104, 43, 180, 0, 107, 43, 42, 180, 0, 3]
abbrev dktX3_compare_1 : List UInt8 := dkwX3_compare_1 ++ dktX3_compare_2
def dkwX3_compare_0 : List UInt8 := [42, 180, 0, 26, 3, 3, 84, 42, 180, 0, 26, 4, 3, 84, 42, 42, 180, 0, 53, 181, 0, 101, 3, 62]
abbrev dktX3_compare_0 : List UInt8 := dkwX3_compare_0 ++ dktX3_compare_1
theorem dksX3_compare_0 : cX3_compare.data.toList.drop 0 = dktX3_compare_0 := by decide +kernel
theorem dksX3_compare_1 : cX3_compare.data.toList.drop 24 = dktX3_compare_1 := dk_seg dksX3_compare_0 24 rfl rfl
theorem dksX3_compare_2 : cX3_compare.data.toList.drop 48 = dktX3_compare_2 := dk_seg dksX3_compare_1 24 rfl rfl
theorem dksX3_compare_3 : cX3_compare.data.toList.drop 72 = dktX3_compare_3 := dk_seg dksX3_compare_2 24 rfl rfl
theorem dksX3_compare_4 : cX3_compare.data.toList.drop 95 = dktX3_compare_4 := dk_seg dksX3_compare_3 23 rfl rfl
theorem dksX3_compare_5 : cX3_compare.data.toList.drop 119 = dktX3_compare_5 := dk_seg dksX3_compare_4 24 rfl rfl
theorem dX3_compare_0 : decode cX3_compare 0 = .ok (.aload_n 0, 1) := dk_42 (dk_at dksX3_compare_0 0 rfl rfl)
theorem dX3_compare_1 : decode cX3_compare 1 = .ok (.getfield 26, 3) := dk_180 0 26 (dk_at dksX3_compare_0 1 rfl rfl)
theorem dX3_compare_4 : decode cX3_compare 4 = .ok (.iconst 0, 1) := dk_3 (dk_at dksX3_compare_0 4 rfl rfl)
theorem dX3_compare_5 : decode cX3_compare 5 = .ok (.iconst 0, 1) := dk_3 (dk_at dksX3_compare_0 5 rfl rfl)
theorem dX3_compare_6 : decode cX3_compare 6 = .ok (.bastore, 1) := dk_84 (dk_at dksX3_compare_0 6 rfl rfl)
theorem dX3_compare_7 : decode cX3_compare 7 = .ok (.aload_n 0, 1) := dk_42 (dk_at dksX3_compare_0 7 rfl rfl)
theorem dX3_compare_8 : decode cX3_compare 8 = .ok (.getfield 26, 3) := dk_180 0 26 (dk_at dksX3_compare_0 8 rfl rfl)
theorem dX3_compare_11 : decode cX3_compare 11 = .ok (.iconst 1, 1) := dk_4 (dk_at dksX3_compare_0 11 rfl rfl)
theorem dX3_compare_12 : decode cX3_compare 12 = .ok (.iconst 0, 1) := dk_3 (dk_at dksX3_compare_0 12 rfl rfl)
theorem dX3_compare_13 : decode cX3_compare 13 = .ok (.bastore, 1) := dk_84 (dk_at dksX3_compare_0 13 rfl rfl)
theorem dX3_compare_14 : decode cX3_compare 14 = .ok (.aload_n 0, 1) := dk_42 (dk_at dksX3_compare_0 14 rfl rfl)
theorem dX3_compare_15 : decode cX3_compare 15 = .ok (.aload_n 0, 1) := dk_42 (dk_at dksX3_compare_0 15 rfl rfl)
theorem dX3_compare_16 : decode cX3_compare 16 = .ok (.getfield 53, 3) := dk_180 0 53 (dk_at dksX3_compare_0 16 rfl rfl)
theorem dX3_compare_19 : decode cX3_compare 19 = .ok (.putfield 101, 3) := dk_181 0 101 (dk_at dksX3_compare_0 19 rfl rfl)
theorem dX3_compare_22 : decode cX3_compare 22 = .ok (.iconst 0, 1) := dk_3 (dk_at dksX3_compare_0 22 rfl rfl)
theorem dX3_compare_23 : decode cX3_compare 23 = .ok (.istore_n 3, 1) := dk_62 (dk_at dksX3_compare_0 23 rfl rfl)
theorem dX3_compare_24 : decode cX3_compare 24 = .ok (.iload_n 3, 1) := dk_29 (dk_at dksX3_compare_1 0 rfl rfl)
theorem dX3_compare_25 : decode cX3_compare 25 = .ok (.i2l, 1) := dk_133 (dk_at dksX3_compare_1 1 rfl rfl)
theorem dX3_compare_26 : decode cX3_compare 26 = .ok (.aload_n 0, 1) := dk_42 (dk_at dksX3_compare_1 2 rfl rfl)
theorem dX3_compare_27 : decode cX3_compare 27 = .ok (.getfield 56, 3) := dk_180 0 56 (dk_at dksX3_compare_1 3 rfl rfl)
theorem dX3_compare_30 : decode cX3_compare 30 = .ok (.lcmp, 1) := dk_148 (dk_at dksX3_compare_1 6 rfl rfl)
theorem dX3_compare_31 : decode cX3_compare 31 = .ok (.ifCond .ge 73, 3) := dk_156 0 73 (dk_at dksX3_compare_1 7 rfl rfl)
theorem dX3_compare_34 : decode cX3_compare 34 = .ok (.aload_n 0, 1) := dk_42 (dk_at dksX3_compare_1 10 rfl rfl)
theorem dX3_compare_35 : decode cX3_compare 35 = .ok (.iload_n 3, 1) := dk_29 (dk_at dksX3_compare_1 11 rfl rfl)
theorem dX3_compare_36 : decode cX3_compare 36 = .ok (.invokevirtual 104, 3) := dk_182 0 104 (dk_at dksX3_compare_1 12 rfl rfl)
theorem dX3_compare_39 : decode cX3_compare 39 = .ok (.aload_n 1, 1) := dk_43 (dk_at dksX3_compare_1 15 rfl rfl)
theorem dX3_compare_40 : decode cX3_compare 40 = .ok (.getfield 107, 3) := dk_180 0 107 (dk_at dksX3_compare_1 16 rfl rfl)
theorem dX3_compare_43 : decode cX3_compare 43 = .ok (.aload_n 1, 1) := dk_43 (dk_at dksX3_compare_1 19 rfl rfl)
theorem dX3_compare_44 : decode cX3_compare 44 = .ok (.aload_n 0, 1) := dk_42 (dk_at dksX3_compare_1 20 rfl rfl)
theorem dX3_compare_45 : decode cX3_compare 45 = .ok (.getfield 3, 3) := dk_180 0 3 (dk_at dksX3_compare_1 21 rfl rfl)
theorem dX3_compare_48 : decode cX3_compare 48 = .ok (.getfield 89, 3) := dk_180 0 89 (dk_at dksX3_compare_2 0 rfl rfl)
theorem dX3_compare_51 : decode cX3_compare 51 = .ok (.invokevirtual 111, 3) := dk_182 0 111 (dk_at dksX3_compare_2 3 rfl rfl)
theorem dX3_compare_54 : decode cX3_compare 54 = .ok (.baload, 1) := dk_51 (dk_at dksX3_compare_2 6 rfl rfl)
theorem dX3_compare_55 : decode cX3_compare 55 = .ok (.istore 4, 2) := dk_54 4 (dk_at dksX3_compare_2 7 rfl rfl)
theorem dX3_compare_57 : decode cX3_compare 57 = .ok (.aload_n 2, 1) := dk_44 (dk_at dksX3_compare_2 9 rfl rfl)
theorem dX3_compare_58 : decode cX3_compare 58 = .ok (.getfield 107, 3) := dk_180 0 107 (dk_at dksX3_compare_2 10 rfl rfl)
theorem dX3_compare_61 : decode cX3_compare 61 = .ok (.aload_n 2, 1) := dk_44 (dk_at dksX3_compare_2 13 rfl rfl)
theorem dX3_compare_62 : decode cX3_compare 62 = .ok (.aload_n 0, 1) := dk_42 (dk_at dksX3_compare_2 14 rfl rfl)
theorem dX3_compare_63 : decode cX3_compare 63 = .ok (.getfield 3, 3) := dk_180 0 3 (dk_at dksX3_compare_2 15 rfl rfl)
theorem dX3_compare_66 : decode cX3_compare 66 = .ok (.getfield 89, 3) := dk_180 0 89 (dk_at dksX3_compare_2 18 rfl rfl)
theorem dX3_compare_69 : decode cX3_compare 69 = .ok (.invokevirtual 111, 3) := dk_182 0 111 (dk_at dksX3_compare_2 21 rfl rfl)
theorem dX3_compare_72 : decode cX3_compare 72 = .ok (.baload, 1) := dk_51 (dk_at dksX3_compare_3 0 rfl rfl)
theorem dX3_compare_73 : decode cX3_compare 73 = .ok (.istore 5, 2) := dk_54 5 (dk_at dksX3_compare_3 1 rfl rfl)
theorem dX3_compare_75 : decode cX3_compare 75 = .ok (.iload 4, 2) := dk_21 4 (dk_at dksX3_compare_3 3 rfl rfl)
theorem dX3_compare_77 : decode cX3_compare 77 = .ok (.iload 5, 2) := dk_21 5 (dk_at dksX3_compare_3 5 rfl rfl)
theorem dX3_compare_79 : decode cX3_compare 79 = .ok (.if_icmp .eq 19, 3) := dk_159 0 19 (dk_at dksX3_compare_3 7 rfl rfl)
theorem dX3_compare_82 : decode cX3_compare 82 = .ok (.aload_n 0, 1) := dk_42 (dk_at dksX3_compare_3 10 rfl rfl)
theorem dX3_compare_83 : decode cX3_compare 83 = .ok (.iload 4, 2) := dk_21 4 (dk_at dksX3_compare_3 11 rfl rfl)
theorem dX3_compare_85 : decode cX3_compare 85 = .ok (.iload 5, 2) := dk_21 5 (dk_at dksX3_compare_3 13 rfl rfl)
theorem dX3_compare_87 : decode cX3_compare 87 = .ok (.if_icmp .le 7, 3) := dk_164 0 7 (dk_at dksX3_compare_3 15 rfl rfl)
theorem dX3_compare_90 : decode cX3_compare 90 = .ok (.iconst 0, 1) := dk_3 (dk_at dksX3_compare_3 18 rfl rfl)
theorem dX3_compare_91 : decode cX3_compare 91 = .ok (.goto 4, 3) := dk_167 0 4 (dk_at dksX3_compare_3 19 rfl rfl)
theorem dX3_compare_94 : decode cX3_compare 94 = .ok (.iconst 1, 1) := dk_4 (dk_at dksX3_compare_3 22 rfl rfl)
theorem dX3_compare_95 : decode cX3_compare 95 = .ok (.invokevirtual 115, 3) := dk_182 0 115 (dk_at dksX3_compare_4 0 rfl rfl)
theorem dX3_compare_98 : decode cX3_compare 98 = .ok (.iinc 3 1, 3) := dk_132 3 1 (dk_at dksX3_compare_4 3 rfl rfl)
theorem dX3_compare_101 : decode cX3_compare 101 = .ok (.goto (-77), 3) := dk_167 255 179 (dk_at dksX3_compare_4 6 rfl rfl)
theorem dX3_compare_104 : decode cX3_compare 104 = .ok (.aload_n 0, 1) := dk_42 (dk_at dksX3_compare_4 9 rfl rfl)
theorem dX3_compare_105 : decode cX3_compare 105 = .ok (.getfield 26, 3) := dk_180 0 26 (dk_at dksX3_compare_4 10 rfl rfl)
theorem dX3_compare_108 : decode cX3_compare 108 = .ok (.iconst 0, 1) := dk_3 (dk_at dksX3_compare_4 13 rfl rfl)
theorem dX3_compare_109 : decode cX3_compare 109 = .ok (.baload, 1) := dk_51 (dk_at dksX3_compare_4 14 rfl rfl)
theorem dX3_compare_110 : decode cX3_compare 110 = .ok (.ifCond .eq 7, 3) := dk_153 0 7 (dk_at dksX3_compare_4 15 rfl rfl)
theorem dX3_compare_113 : decode cX3_compare 113 = .ok (.iconst 1, 1) := dk_4 (dk_at dksX3_compare_4 18 rfl rfl)
theorem dX3_compare_114 : decode cX3_compare 114 = .ok (.goto 4, 3) := dk_167 0 4 (dk_at dksX3_compare_4 19 rfl rfl)
theorem dX3_compare_117 : decode cX3_compare 117 = .ok (.iconst 0, 1) := dk_3 (dk_at dksX3_compare_4 22 rfl rfl)
theorem dX3_compare_118 : decode cX3_compare 118 = .ok (.aload_n 0, 1) := dk_42 (dk_at dksX3_compare_4 23 rfl rfl)
theorem dX3_compare_119 : decode cX3_compare 119 = .ok (.getfield 26, 3) := dk_180 0 26 (dk_at dksX3_compare_5 0 rfl rfl)
theorem dX3_compare_122 : decode cX3_compare 122 = .ok (.iconst 1, 1) := dk_4 (dk_at dksX3_compare_5 3 rfl rfl)
theorem dX3_compare_123 : decode cX3_compare 123 = .ok (.baload, 1) := dk_51 (dk_at dksX3_compare_5 4 rfl rfl)
theorem dX3_compare_124 : decode cX3_compare 124 = .ok (.ifCond .eq 7, 3) := dk_153 0 7 (dk_at dksX3_compare_5 5 rfl rfl)
theorem dX3_compare_127 : decode cX3_compare 127 = .ok (.iconst 2, 1) := dk_5 (dk_at dksX3_compare_5 8 rfl rfl)
theorem dX3_compare_128 : decode cX3_compare 128 = .ok (.goto 4, 3) := dk_167 0 4 (dk_at dksX3_compare_5 9 rfl rfl)
theorem dX3_compare_131 : decode cX3_compare 131 = .ok (.iconst 0, 1) := dk_3 (dk_at dksX3_compare_5 12 rfl rfl)
theorem dX3_compare_132 : decode cX3_compare 132 = .ok (.iadd, 1) := dk_96 (dk_at dksX3_compare_5 13 rfl rfl)
theorem dX3_compare_133 : decode cX3_compare 133 = .ok (.ireturn, 1) := dk_172 (dk_at dksX3_compare_5 14 rfl rfl)
abbrev cX3_way : ByteArray := prog_10_method_3_code
def yX3_way : MethodName := ⟨RX3, "way", "(I)V"⟩
def dkwX3_way_2 : List UInt8 := [180, 0, 77, 112, 46, 79, 28, 25, 4, 180, 0, 77, 108, 61, 132, 3, 255, 167, 255, 201, 177]
abbrev dktX3_way_2 : List UInt8 := dkwX3_way_2 ++ []
def dkwX3_way_1 : List UInt8 := [192, 0, 33, 58, 4, 42, 180, 0, 3, 180, 0, 89, 180, 0, 93, 29, 25, 4, 180, 0, 98, 28, 25, 4]
abbrev dktX3_way_1 : List UInt8 := dkwX3_way_1 ++ dktX3_way_2
def dkwX3_way_0 : List UInt8 := [27, 61, 42, 180, 0, 53, 4, 100, 62, 29, 155, 0, 57, 42, 180, 0, 18, 29, 185, 0, 60, 2, 0]
abbrev dktX3_way_0 : List UInt8 := dkwX3_way_0 ++ dktX3_way_1
theorem dksX3_way_0 : cX3_way.data.toList.drop 0 = dktX3_way_0 := by decide +kernel
theorem dksX3_way_1 : cX3_way.data.toList.drop 23 = dktX3_way_1 := dk_seg dksX3_way_0 23 rfl rfl
theorem dksX3_way_2 : cX3_way.data.toList.drop 47 = dktX3_way_2 := dk_seg dksX3_way_1 24 rfl rfl
theorem dX3_way_0 : decode cX3_way 0 = .ok (.iload_n 1, 1) := dk_27 (dk_at dksX3_way_0 0 rfl rfl)
theorem dX3_way_1 : decode cX3_way 1 = .ok (.istore_n 2, 1) := dk_61 (dk_at dksX3_way_0 1 rfl rfl)
theorem dX3_way_2 : decode cX3_way 2 = .ok (.aload_n 0, 1) := dk_42 (dk_at dksX3_way_0 2 rfl rfl)
theorem dX3_way_3 : decode cX3_way 3 = .ok (.getfield 53, 3) := dk_180 0 53 (dk_at dksX3_way_0 3 rfl rfl)
theorem dX3_way_6 : decode cX3_way 6 = .ok (.iconst 1, 1) := dk_4 (dk_at dksX3_way_0 6 rfl rfl)
theorem dX3_way_7 : decode cX3_way 7 = .ok (.isub, 1) := dk_100 (dk_at dksX3_way_0 7 rfl rfl)
theorem dX3_way_8 : decode cX3_way 8 = .ok (.istore_n 3, 1) := dk_62 (dk_at dksX3_way_0 8 rfl rfl)
theorem dX3_way_9 : decode cX3_way 9 = .ok (.iload_n 3, 1) := dk_29 (dk_at dksX3_way_0 9 rfl rfl)
theorem dX3_way_10 : decode cX3_way 10 = .ok (.ifCond .lt 57, 3) := dk_155 0 57 (dk_at dksX3_way_0 10 rfl rfl)
theorem dX3_way_13 : decode cX3_way 13 = .ok (.aload_n 0, 1) := dk_42 (dk_at dksX3_way_0 13 rfl rfl)
theorem dX3_way_14 : decode cX3_way 14 = .ok (.getfield 18, 3) := dk_180 0 18 (dk_at dksX3_way_0 14 rfl rfl)
theorem dX3_way_17 : decode cX3_way 17 = .ok (.iload_n 3, 1) := dk_29 (dk_at dksX3_way_0 17 rfl rfl)
theorem dX3_way_18 : decode cX3_way 18 = .ok (.invokeinterface 60 2, 5) := by decide +kernel
theorem dX3_way_23 : decode cX3_way 23 = .ok (.checkcast 33, 3) := dk_192 0 33 (dk_at dksX3_way_1 0 rfl rfl)
theorem dX3_way_26 : decode cX3_way 26 = .ok (.astore 4, 2) := dk_58 4 (dk_at dksX3_way_1 3 rfl rfl)
theorem dX3_way_28 : decode cX3_way 28 = .ok (.aload_n 0, 1) := dk_42 (dk_at dksX3_way_1 5 rfl rfl)
theorem dX3_way_29 : decode cX3_way 29 = .ok (.getfield 3, 3) := dk_180 0 3 (dk_at dksX3_way_1 6 rfl rfl)
theorem dX3_way_32 : decode cX3_way 32 = .ok (.getfield 89, 3) := dk_180 0 89 (dk_at dksX3_way_1 9 rfl rfl)
theorem dX3_way_35 : decode cX3_way 35 = .ok (.getfield 93, 3) := dk_180 0 93 (dk_at dksX3_way_1 12 rfl rfl)
theorem dX3_way_38 : decode cX3_way 38 = .ok (.iload_n 3, 1) := dk_29 (dk_at dksX3_way_1 15 rfl rfl)
theorem dX3_way_39 : decode cX3_way 39 = .ok (.aload 4, 2) := dk_25 4 (dk_at dksX3_way_1 16 rfl rfl)
theorem dX3_way_41 : decode cX3_way 41 = .ok (.getfield 98, 3) := dk_180 0 98 (dk_at dksX3_way_1 18 rfl rfl)
theorem dX3_way_44 : decode cX3_way 44 = .ok (.iload_n 2, 1) := dk_28 (dk_at dksX3_way_1 21 rfl rfl)
theorem dX3_way_45 : decode cX3_way 45 = .ok (.aload 4, 2) := dk_25 4 (dk_at dksX3_way_1 22 rfl rfl)
theorem dX3_way_47 : decode cX3_way 47 = .ok (.getfield 77, 3) := dk_180 0 77 (dk_at dksX3_way_2 0 rfl rfl)
theorem dX3_way_50 : decode cX3_way 50 = .ok (.irem, 1) := dk_112 (dk_at dksX3_way_2 3 rfl rfl)
theorem dX3_way_51 : decode cX3_way 51 = .ok (.iaload, 1) := dk_46 (dk_at dksX3_way_2 4 rfl rfl)
theorem dX3_way_52 : decode cX3_way 52 = .ok (.iastore, 1) := dk_79 (dk_at dksX3_way_2 5 rfl rfl)
theorem dX3_way_53 : decode cX3_way 53 = .ok (.iload_n 2, 1) := dk_28 (dk_at dksX3_way_2 6 rfl rfl)
theorem dX3_way_54 : decode cX3_way 54 = .ok (.aload 4, 2) := dk_25 4 (dk_at dksX3_way_2 7 rfl rfl)
theorem dX3_way_56 : decode cX3_way 56 = .ok (.getfield 77, 3) := dk_180 0 77 (dk_at dksX3_way_2 9 rfl rfl)
theorem dX3_way_59 : decode cX3_way 59 = .ok (.idiv, 1) := dk_108 (dk_at dksX3_way_2 12 rfl rfl)
theorem dX3_way_60 : decode cX3_way 60 = .ok (.istore_n 2, 1) := dk_61 (dk_at dksX3_way_2 13 rfl rfl)
theorem dX3_way_61 : decode cX3_way 61 = .ok (.iinc 3 (-1), 3) := dk_132 3 255 (dk_at dksX3_way_2 14 rfl rfl)
theorem dX3_way_64 : decode cX3_way 64 = .ok (.goto (-55), 3) := dk_167 255 201 (dk_at dksX3_way_2 17 rfl rfl)
theorem dX3_way_67 : decode cX3_way 67 = .ok (.return_, 1) := dk_177 (dk_at dksX3_way_2 20 rfl rfl)
abbrev cX3_keep : ByteArray := prog_10_method_4_code
def yX3_keep : MethodName := ⟨RX3, "keep", "(I)V"⟩
def dkwX3_keep_2 : List UInt8 := [46, 79, 132, 2, 1, 167, 255, 222, 177]
abbrev dktX3_keep_2 : List UInt8 := dkwX3_keep_2 ++ []
def dkwX3_keep_1 : List UInt8 := [162, 0, 32, 42, 180, 0, 22, 16, 8, 27, 104, 28, 96, 42, 180, 0, 3, 180, 0, 89, 180, 0, 93, 28]
abbrev dktX3_keep_1 : List UInt8 := dkwX3_keep_1 ++ dktX3_keep_2
def dkwX3_keep_0 : List UInt8 := [42, 180, 0, 26, 27, 51, 153, 0, 4, 177, 42, 180, 0, 26, 27, 4, 84, 3, 61, 28, 42, 180, 0, 53]
abbrev dktX3_keep_0 : List UInt8 := dkwX3_keep_0 ++ dktX3_keep_1
theorem dksX3_keep_0 : cX3_keep.data.toList.drop 0 = dktX3_keep_0 := by decide +kernel
theorem dksX3_keep_1 : cX3_keep.data.toList.drop 24 = dktX3_keep_1 := dk_seg dksX3_keep_0 24 rfl rfl
theorem dksX3_keep_2 : cX3_keep.data.toList.drop 48 = dktX3_keep_2 := dk_seg dksX3_keep_1 24 rfl rfl
theorem dX3_keep_0 : decode cX3_keep 0 = .ok (.aload_n 0, 1) := dk_42 (dk_at dksX3_keep_0 0 rfl rfl)
theorem dX3_keep_1 : decode cX3_keep 1 = .ok (.getfield 26, 3) := dk_180 0 26 (dk_at dksX3_keep_0 1 rfl rfl)
theorem dX3_keep_4 : decode cX3_keep 4 = .ok (.iload_n 1, 1) := dk_27 (dk_at dksX3_keep_0 4 rfl rfl)
theorem dX3_keep_5 : decode cX3_keep 5 = .ok (.baload, 1) := dk_51 (dk_at dksX3_keep_0 5 rfl rfl)
theorem dX3_keep_6 : decode cX3_keep 6 = .ok (.ifCond .eq 4, 3) := dk_153 0 4 (dk_at dksX3_keep_0 6 rfl rfl)
theorem dX3_keep_9 : decode cX3_keep 9 = .ok (.return_, 1) := dk_177 (dk_at dksX3_keep_0 9 rfl rfl)
theorem dX3_keep_10 : decode cX3_keep 10 = .ok (.aload_n 0, 1) := dk_42 (dk_at dksX3_keep_0 10 rfl rfl)
theorem dX3_keep_11 : decode cX3_keep 11 = .ok (.getfield 26, 3) := dk_180 0 26 (dk_at dksX3_keep_0 11 rfl rfl)
theorem dX3_keep_14 : decode cX3_keep 14 = .ok (.iload_n 1, 1) := dk_27 (dk_at dksX3_keep_0 14 rfl rfl)
theorem dX3_keep_15 : decode cX3_keep 15 = .ok (.iconst 1, 1) := dk_4 (dk_at dksX3_keep_0 15 rfl rfl)
theorem dX3_keep_16 : decode cX3_keep 16 = .ok (.bastore, 1) := dk_84 (dk_at dksX3_keep_0 16 rfl rfl)
theorem dX3_keep_17 : decode cX3_keep 17 = .ok (.iconst 0, 1) := dk_3 (dk_at dksX3_keep_0 17 rfl rfl)
theorem dX3_keep_18 : decode cX3_keep 18 = .ok (.istore_n 2, 1) := dk_61 (dk_at dksX3_keep_0 18 rfl rfl)
theorem dX3_keep_19 : decode cX3_keep 19 = .ok (.iload_n 2, 1) := dk_28 (dk_at dksX3_keep_0 19 rfl rfl)
theorem dX3_keep_20 : decode cX3_keep 20 = .ok (.aload_n 0, 1) := dk_42 (dk_at dksX3_keep_0 20 rfl rfl)
theorem dX3_keep_21 : decode cX3_keep 21 = .ok (.getfield 53, 3) := dk_180 0 53 (dk_at dksX3_keep_0 21 rfl rfl)
theorem dX3_keep_24 : decode cX3_keep 24 = .ok (.if_icmp .ge 32, 3) := dk_162 0 32 (dk_at dksX3_keep_1 0 rfl rfl)
theorem dX3_keep_27 : decode cX3_keep 27 = .ok (.aload_n 0, 1) := dk_42 (dk_at dksX3_keep_1 3 rfl rfl)
theorem dX3_keep_28 : decode cX3_keep 28 = .ok (.getfield 22, 3) := dk_180 0 22 (dk_at dksX3_keep_1 4 rfl rfl)
theorem dX3_keep_31 : decode cX3_keep 31 = .ok (.bipush 8, 2) := dk_16 8 (dk_at dksX3_keep_1 7 rfl rfl)
theorem dX3_keep_33 : decode cX3_keep 33 = .ok (.iload_n 1, 1) := dk_27 (dk_at dksX3_keep_1 9 rfl rfl)
theorem dX3_keep_34 : decode cX3_keep 34 = .ok (.imul, 1) := dk_104 (dk_at dksX3_keep_1 10 rfl rfl)
theorem dX3_keep_35 : decode cX3_keep 35 = .ok (.iload_n 2, 1) := dk_28 (dk_at dksX3_keep_1 11 rfl rfl)
theorem dX3_keep_36 : decode cX3_keep 36 = .ok (.iadd, 1) := dk_96 (dk_at dksX3_keep_1 12 rfl rfl)
theorem dX3_keep_37 : decode cX3_keep 37 = .ok (.aload_n 0, 1) := dk_42 (dk_at dksX3_keep_1 13 rfl rfl)
theorem dX3_keep_38 : decode cX3_keep 38 = .ok (.getfield 3, 3) := dk_180 0 3 (dk_at dksX3_keep_1 14 rfl rfl)
theorem dX3_keep_41 : decode cX3_keep 41 = .ok (.getfield 89, 3) := dk_180 0 89 (dk_at dksX3_keep_1 17 rfl rfl)
theorem dX3_keep_44 : decode cX3_keep 44 = .ok (.getfield 93, 3) := dk_180 0 93 (dk_at dksX3_keep_1 20 rfl rfl)
theorem dX3_keep_47 : decode cX3_keep 47 = .ok (.iload_n 2, 1) := dk_28 (dk_at dksX3_keep_1 23 rfl rfl)
theorem dX3_keep_48 : decode cX3_keep 48 = .ok (.iaload, 1) := dk_46 (dk_at dksX3_keep_2 0 rfl rfl)
theorem dX3_keep_49 : decode cX3_keep 49 = .ok (.iastore, 1) := dk_79 (dk_at dksX3_keep_2 1 rfl rfl)
theorem dX3_keep_50 : decode cX3_keep 50 = .ok (.iinc 2 1, 3) := dk_132 2 1 (dk_at dksX3_keep_2 2 rfl rfl)
theorem dX3_keep_53 : decode cX3_keep 53 = .ok (.goto (-34), 3) := dk_167 255 222 (dk_at dksX3_keep_2 5 rfl rfl)
theorem dX3_keep_56 : decode cX3_keep 56 = .ok (.return_, 1) := dk_177 (dk_at dksX3_keep_2 8 rfl rfl)
abbrev cX3_judge : ByteArray := prog_10_method_6_code
def yX3_judge : MethodName := ⟨RX3, "judge", "(LCoverHouse$Wording;ILCoverHouse$Cond;)I"⟩
def dkwX3_judge_8 : List UInt8 := [167, 0, 4, 3, 172]
abbrev dktX3_judge_8 : List UInt8 := dkwX3_judge_8 ++ []
def dkwX3_judge_7 : List UInt8 := [132, 4, 1, 167, 255, 217, 42, 180, 0, 118, 28, 5, 160, 0, 7, 4, 167, 0, 4, 3, 160, 0, 7, 4]
abbrev dktX3_judge_7 : List UInt8 := dkwX3_judge_7 ++ dktX3_judge_8
def dkwX3_judge_6 : List UInt8 := [153, 0, 29, 42, 180, 0, 30, 21, 4, 42, 180, 0, 3, 180, 0, 89, 180, 0, 93, 21, 4, 46, 79]
abbrev dktX3_judge_6 : List UInt8 := dkwX3_judge_6 ++ dktX3_judge_7
def dkwX3_judge_5 : List UInt8 := [132, 4, 1, 167, 255, 151, 3, 54, 4, 21, 4, 42, 180, 0, 53, 162, 0, 36, 42, 180, 0, 118]
abbrev dktX3_judge_5 : List UInt8 := dkwX3_judge_5 ++ dktX3_judge_6
def dkwX3_judge_4 : List UInt8 := [4, 167, 0, 18, 3, 167, 0, 14, 21, 5, 4, 160, 0, 7, 4, 167, 0, 4, 3, 181, 0, 118]
abbrev dktX3_judge_4 : List UInt8 := dkwX3_judge_4 ++ dktX3_judge_5
def dkwX3_judge_3 : List UInt8 := [43, 42, 180, 0, 3, 180, 0, 89, 182, 0, 111, 51, 54, 5, 42, 28, 154, 0, 16, 21, 5, 154, 0, 7]
abbrev dktX3_judge_3 : List UInt8 := dkwX3_judge_3 ++ dktX3_judge_4
def dkwX3_judge_2 : List UInt8 := [182, 0, 125, 45, 42, 180, 0, 3, 180, 0, 89, 182, 0, 129, 154, 0, 6, 167, 0, 53, 43, 180, 0, 107]
abbrev dktX3_judge_2 : List UInt8 := dkwX3_judge_2 ++ dktX3_judge_3
def dkwX3_judge_1 : List UInt8 := [156, 0, 100, 42, 180, 0, 118, 154, 0, 93, 42, 21, 4, 182, 0, 104, 43, 42, 180, 0, 3, 180, 0, 89]
abbrev dktX3_judge_1 : List UInt8 := dkwX3_judge_1 ++ dktX3_judge_2
def dkwX3_judge_0 : List UInt8 := [42, 3, 181, 0, 118, 42, 42, 180, 0, 53, 181, 0, 122, 3, 54, 4, 21, 4, 133, 42, 180, 0, 56, 148]
abbrev dktX3_judge_0 : List UInt8 := dkwX3_judge_0 ++ dktX3_judge_1
theorem dksX3_judge_0 : cX3_judge.data.toList.drop 0 = dktX3_judge_0 := by decide +kernel
theorem dksX3_judge_1 : cX3_judge.data.toList.drop 24 = dktX3_judge_1 := dk_seg dksX3_judge_0 24 rfl rfl
theorem dksX3_judge_2 : cX3_judge.data.toList.drop 48 = dktX3_judge_2 := dk_seg dksX3_judge_1 24 rfl rfl
theorem dksX3_judge_3 : cX3_judge.data.toList.drop 72 = dktX3_judge_3 := dk_seg dksX3_judge_2 24 rfl rfl
theorem dksX3_judge_4 : cX3_judge.data.toList.drop 96 = dktX3_judge_4 := dk_seg dksX3_judge_3 24 rfl rfl
theorem dksX3_judge_5 : cX3_judge.data.toList.drop 118 = dktX3_judge_5 := dk_seg dksX3_judge_4 22 rfl rfl
theorem dksX3_judge_6 : cX3_judge.data.toList.drop 140 = dktX3_judge_6 := dk_seg dksX3_judge_5 22 rfl rfl
theorem dksX3_judge_7 : cX3_judge.data.toList.drop 163 = dktX3_judge_7 := dk_seg dksX3_judge_6 23 rfl rfl
theorem dksX3_judge_8 : cX3_judge.data.toList.drop 187 = dktX3_judge_8 := dk_seg dksX3_judge_7 24 rfl rfl
theorem dX3_judge_0 : decode cX3_judge 0 = .ok (.aload_n 0, 1) := dk_42 (dk_at dksX3_judge_0 0 rfl rfl)
theorem dX3_judge_1 : decode cX3_judge 1 = .ok (.iconst 0, 1) := dk_3 (dk_at dksX3_judge_0 1 rfl rfl)
theorem dX3_judge_2 : decode cX3_judge 2 = .ok (.putfield 118, 3) := dk_181 0 118 (dk_at dksX3_judge_0 2 rfl rfl)
theorem dX3_judge_5 : decode cX3_judge 5 = .ok (.aload_n 0, 1) := dk_42 (dk_at dksX3_judge_0 5 rfl rfl)
theorem dX3_judge_6 : decode cX3_judge 6 = .ok (.aload_n 0, 1) := dk_42 (dk_at dksX3_judge_0 6 rfl rfl)
theorem dX3_judge_7 : decode cX3_judge 7 = .ok (.getfield 53, 3) := dk_180 0 53 (dk_at dksX3_judge_0 7 rfl rfl)
theorem dX3_judge_10 : decode cX3_judge 10 = .ok (.putfield 122, 3) := dk_181 0 122 (dk_at dksX3_judge_0 10 rfl rfl)
theorem dX3_judge_13 : decode cX3_judge 13 = .ok (.iconst 0, 1) := dk_3 (dk_at dksX3_judge_0 13 rfl rfl)
theorem dX3_judge_14 : decode cX3_judge 14 = .ok (.istore 4, 2) := dk_54 4 (dk_at dksX3_judge_0 14 rfl rfl)
theorem dX3_judge_16 : decode cX3_judge 16 = .ok (.iload 4, 2) := dk_21 4 (dk_at dksX3_judge_0 16 rfl rfl)
theorem dX3_judge_18 : decode cX3_judge 18 = .ok (.i2l, 1) := dk_133 (dk_at dksX3_judge_0 18 rfl rfl)
theorem dX3_judge_19 : decode cX3_judge 19 = .ok (.aload_n 0, 1) := dk_42 (dk_at dksX3_judge_0 19 rfl rfl)
theorem dX3_judge_20 : decode cX3_judge 20 = .ok (.getfield 56, 3) := dk_180 0 56 (dk_at dksX3_judge_0 20 rfl rfl)
theorem dX3_judge_23 : decode cX3_judge 23 = .ok (.lcmp, 1) := dk_148 (dk_at dksX3_judge_0 23 rfl rfl)
theorem dX3_judge_24 : decode cX3_judge 24 = .ok (.ifCond .ge 100, 3) := dk_156 0 100 (dk_at dksX3_judge_1 0 rfl rfl)
theorem dX3_judge_27 : decode cX3_judge 27 = .ok (.aload_n 0, 1) := dk_42 (dk_at dksX3_judge_1 3 rfl rfl)
theorem dX3_judge_28 : decode cX3_judge 28 = .ok (.getfield 118, 3) := dk_180 0 118 (dk_at dksX3_judge_1 4 rfl rfl)
theorem dX3_judge_31 : decode cX3_judge 31 = .ok (.ifCond .ne 93, 3) := dk_154 0 93 (dk_at dksX3_judge_1 7 rfl rfl)
theorem dX3_judge_34 : decode cX3_judge 34 = .ok (.aload_n 0, 1) := dk_42 (dk_at dksX3_judge_1 10 rfl rfl)
theorem dX3_judge_35 : decode cX3_judge 35 = .ok (.iload 4, 2) := dk_21 4 (dk_at dksX3_judge_1 11 rfl rfl)
theorem dX3_judge_37 : decode cX3_judge 37 = .ok (.invokevirtual 104, 3) := dk_182 0 104 (dk_at dksX3_judge_1 13 rfl rfl)
theorem dX3_judge_40 : decode cX3_judge 40 = .ok (.aload_n 1, 1) := dk_43 (dk_at dksX3_judge_1 16 rfl rfl)
theorem dX3_judge_41 : decode cX3_judge 41 = .ok (.aload_n 0, 1) := dk_42 (dk_at dksX3_judge_1 17 rfl rfl)
theorem dX3_judge_42 : decode cX3_judge 42 = .ok (.getfield 3, 3) := dk_180 0 3 (dk_at dksX3_judge_1 18 rfl rfl)
theorem dX3_judge_45 : decode cX3_judge 45 = .ok (.getfield 89, 3) := dk_180 0 89 (dk_at dksX3_judge_1 21 rfl rfl)
theorem dX3_judge_48 : decode cX3_judge 48 = .ok (.invokevirtual 125, 3) := dk_182 0 125 (dk_at dksX3_judge_2 0 rfl rfl)
theorem dX3_judge_51 : decode cX3_judge 51 = .ok (.aload_n 3, 1) := dk_45 (dk_at dksX3_judge_2 3 rfl rfl)
theorem dX3_judge_52 : decode cX3_judge 52 = .ok (.aload_n 0, 1) := dk_42 (dk_at dksX3_judge_2 4 rfl rfl)
theorem dX3_judge_53 : decode cX3_judge 53 = .ok (.getfield 3, 3) := dk_180 0 3 (dk_at dksX3_judge_2 5 rfl rfl)
theorem dX3_judge_56 : decode cX3_judge 56 = .ok (.getfield 89, 3) := dk_180 0 89 (dk_at dksX3_judge_2 8 rfl rfl)
theorem dX3_judge_59 : decode cX3_judge 59 = .ok (.invokevirtual 129, 3) := dk_182 0 129 (dk_at dksX3_judge_2 11 rfl rfl)
theorem dX3_judge_62 : decode cX3_judge 62 = .ok (.ifCond .ne 6, 3) := dk_154 0 6 (dk_at dksX3_judge_2 14 rfl rfl)
theorem dX3_judge_65 : decode cX3_judge 65 = .ok (.goto 53, 3) := dk_167 0 53 (dk_at dksX3_judge_2 17 rfl rfl)
theorem dX3_judge_68 : decode cX3_judge 68 = .ok (.aload_n 1, 1) := dk_43 (dk_at dksX3_judge_2 20 rfl rfl)
theorem dX3_judge_69 : decode cX3_judge 69 = .ok (.getfield 107, 3) := dk_180 0 107 (dk_at dksX3_judge_2 21 rfl rfl)
theorem dX3_judge_72 : decode cX3_judge 72 = .ok (.aload_n 1, 1) := dk_43 (dk_at dksX3_judge_3 0 rfl rfl)
theorem dX3_judge_73 : decode cX3_judge 73 = .ok (.aload_n 0, 1) := dk_42 (dk_at dksX3_judge_3 1 rfl rfl)
theorem dX3_judge_74 : decode cX3_judge 74 = .ok (.getfield 3, 3) := dk_180 0 3 (dk_at dksX3_judge_3 2 rfl rfl)
theorem dX3_judge_77 : decode cX3_judge 77 = .ok (.getfield 89, 3) := dk_180 0 89 (dk_at dksX3_judge_3 5 rfl rfl)
theorem dX3_judge_80 : decode cX3_judge 80 = .ok (.invokevirtual 111, 3) := dk_182 0 111 (dk_at dksX3_judge_3 8 rfl rfl)
theorem dX3_judge_83 : decode cX3_judge 83 = .ok (.baload, 1) := dk_51 (dk_at dksX3_judge_3 11 rfl rfl)
theorem dX3_judge_84 : decode cX3_judge 84 = .ok (.istore 5, 2) := dk_54 5 (dk_at dksX3_judge_3 12 rfl rfl)
theorem dX3_judge_86 : decode cX3_judge 86 = .ok (.aload_n 0, 1) := dk_42 (dk_at dksX3_judge_3 14 rfl rfl)
theorem dX3_judge_87 : decode cX3_judge 87 = .ok (.iload_n 2, 1) := dk_28 (dk_at dksX3_judge_3 15 rfl rfl)
theorem dX3_judge_88 : decode cX3_judge 88 = .ok (.ifCond .ne 16, 3) := dk_154 0 16 (dk_at dksX3_judge_3 16 rfl rfl)
theorem dX3_judge_91 : decode cX3_judge 91 = .ok (.iload 5, 2) := dk_21 5 (dk_at dksX3_judge_3 19 rfl rfl)
theorem dX3_judge_93 : decode cX3_judge 93 = .ok (.ifCond .ne 7, 3) := dk_154 0 7 (dk_at dksX3_judge_3 21 rfl rfl)
theorem dX3_judge_96 : decode cX3_judge 96 = .ok (.iconst 1, 1) := dk_4 (dk_at dksX3_judge_4 0 rfl rfl)
theorem dX3_judge_97 : decode cX3_judge 97 = .ok (.goto 18, 3) := dk_167 0 18 (dk_at dksX3_judge_4 1 rfl rfl)
theorem dX3_judge_100 : decode cX3_judge 100 = .ok (.iconst 0, 1) := dk_3 (dk_at dksX3_judge_4 4 rfl rfl)
theorem dX3_judge_101 : decode cX3_judge 101 = .ok (.goto 14, 3) := dk_167 0 14 (dk_at dksX3_judge_4 5 rfl rfl)
theorem dX3_judge_104 : decode cX3_judge 104 = .ok (.iload 5, 2) := dk_21 5 (dk_at dksX3_judge_4 8 rfl rfl)
theorem dX3_judge_106 : decode cX3_judge 106 = .ok (.iconst 1, 1) := dk_4 (dk_at dksX3_judge_4 10 rfl rfl)
theorem dX3_judge_107 : decode cX3_judge 107 = .ok (.if_icmp .ne 7, 3) := dk_160 0 7 (dk_at dksX3_judge_4 11 rfl rfl)
theorem dX3_judge_110 : decode cX3_judge 110 = .ok (.iconst 1, 1) := dk_4 (dk_at dksX3_judge_4 14 rfl rfl)
theorem dX3_judge_111 : decode cX3_judge 111 = .ok (.goto 4, 3) := dk_167 0 4 (dk_at dksX3_judge_4 15 rfl rfl)
theorem dX3_judge_114 : decode cX3_judge 114 = .ok (.iconst 0, 1) := dk_3 (dk_at dksX3_judge_4 18 rfl rfl)
theorem dX3_judge_115 : decode cX3_judge 115 = .ok (.putfield 118, 3) := dk_181 0 118 (dk_at dksX3_judge_4 19 rfl rfl)
theorem dX3_judge_118 : decode cX3_judge 118 = .ok (.iinc 4 1, 3) := dk_132 4 1 (dk_at dksX3_judge_5 0 rfl rfl)
theorem dX3_judge_121 : decode cX3_judge 121 = .ok (.goto (-105), 3) := dk_167 255 151 (dk_at dksX3_judge_5 3 rfl rfl)
theorem dX3_judge_124 : decode cX3_judge 124 = .ok (.iconst 0, 1) := dk_3 (dk_at dksX3_judge_5 6 rfl rfl)
theorem dX3_judge_125 : decode cX3_judge 125 = .ok (.istore 4, 2) := dk_54 4 (dk_at dksX3_judge_5 7 rfl rfl)
theorem dX3_judge_127 : decode cX3_judge 127 = .ok (.iload 4, 2) := dk_21 4 (dk_at dksX3_judge_5 9 rfl rfl)
theorem dX3_judge_129 : decode cX3_judge 129 = .ok (.aload_n 0, 1) := dk_42 (dk_at dksX3_judge_5 11 rfl rfl)
theorem dX3_judge_130 : decode cX3_judge 130 = .ok (.getfield 53, 3) := dk_180 0 53 (dk_at dksX3_judge_5 12 rfl rfl)
theorem dX3_judge_133 : decode cX3_judge 133 = .ok (.if_icmp .ge 36, 3) := dk_162 0 36 (dk_at dksX3_judge_5 15 rfl rfl)
theorem dX3_judge_136 : decode cX3_judge 136 = .ok (.aload_n 0, 1) := dk_42 (dk_at dksX3_judge_5 18 rfl rfl)
theorem dX3_judge_137 : decode cX3_judge 137 = .ok (.getfield 118, 3) := dk_180 0 118 (dk_at dksX3_judge_5 19 rfl rfl)
theorem dX3_judge_140 : decode cX3_judge 140 = .ok (.ifCond .eq 29, 3) := dk_153 0 29 (dk_at dksX3_judge_6 0 rfl rfl)
theorem dX3_judge_143 : decode cX3_judge 143 = .ok (.aload_n 0, 1) := dk_42 (dk_at dksX3_judge_6 3 rfl rfl)
theorem dX3_judge_144 : decode cX3_judge 144 = .ok (.getfield 30, 3) := dk_180 0 30 (dk_at dksX3_judge_6 4 rfl rfl)
theorem dX3_judge_147 : decode cX3_judge 147 = .ok (.iload 4, 2) := dk_21 4 (dk_at dksX3_judge_6 7 rfl rfl)
theorem dX3_judge_149 : decode cX3_judge 149 = .ok (.aload_n 0, 1) := dk_42 (dk_at dksX3_judge_6 9 rfl rfl)
theorem dX3_judge_150 : decode cX3_judge 150 = .ok (.getfield 3, 3) := dk_180 0 3 (dk_at dksX3_judge_6 10 rfl rfl)
theorem dX3_judge_153 : decode cX3_judge 153 = .ok (.getfield 89, 3) := dk_180 0 89 (dk_at dksX3_judge_6 13 rfl rfl)
theorem dX3_judge_156 : decode cX3_judge 156 = .ok (.getfield 93, 3) := dk_180 0 93 (dk_at dksX3_judge_6 16 rfl rfl)
theorem dX3_judge_159 : decode cX3_judge 159 = .ok (.iload 4, 2) := dk_21 4 (dk_at dksX3_judge_6 19 rfl rfl)
theorem dX3_judge_161 : decode cX3_judge 161 = .ok (.iaload, 1) := dk_46 (dk_at dksX3_judge_6 21 rfl rfl)
theorem dX3_judge_162 : decode cX3_judge 162 = .ok (.iastore, 1) := dk_79 (dk_at dksX3_judge_6 22 rfl rfl)
theorem dX3_judge_163 : decode cX3_judge 163 = .ok (.iinc 4 1, 3) := dk_132 4 1 (dk_at dksX3_judge_7 0 rfl rfl)
theorem dX3_judge_166 : decode cX3_judge 166 = .ok (.goto (-39), 3) := dk_167 255 217 (dk_at dksX3_judge_7 3 rfl rfl)
theorem dX3_judge_169 : decode cX3_judge 169 = .ok (.aload_n 0, 1) := dk_42 (dk_at dksX3_judge_7 6 rfl rfl)
theorem dX3_judge_170 : decode cX3_judge 170 = .ok (.getfield 118, 3) := dk_180 0 118 (dk_at dksX3_judge_7 7 rfl rfl)
theorem dX3_judge_173 : decode cX3_judge 173 = .ok (.iload_n 2, 1) := dk_28 (dk_at dksX3_judge_7 10 rfl rfl)
theorem dX3_judge_174 : decode cX3_judge 174 = .ok (.iconst 2, 1) := dk_5 (dk_at dksX3_judge_7 11 rfl rfl)
theorem dX3_judge_175 : decode cX3_judge 175 = .ok (.if_icmp .ne 7, 3) := dk_160 0 7 (dk_at dksX3_judge_7 12 rfl rfl)
theorem dX3_judge_178 : decode cX3_judge 178 = .ok (.iconst 1, 1) := dk_4 (dk_at dksX3_judge_7 15 rfl rfl)
theorem dX3_judge_179 : decode cX3_judge 179 = .ok (.goto 4, 3) := dk_167 0 4 (dk_at dksX3_judge_7 16 rfl rfl)
theorem dX3_judge_182 : decode cX3_judge 182 = .ok (.iconst 0, 1) := dk_3 (dk_at dksX3_judge_7 19 rfl rfl)
theorem dX3_judge_183 : decode cX3_judge 183 = .ok (.if_icmp .ne 7, 3) := dk_160 0 7 (dk_at dksX3_judge_7 20 rfl rfl)
theorem dX3_judge_186 : decode cX3_judge 186 = .ok (.iconst 1, 1) := dk_4 (dk_at dksX3_judge_7 23 rfl rfl)
theorem dX3_judge_187 : decode cX3_judge 187 = .ok (.goto 4, 3) := dk_167 0 4 (dk_at dksX3_judge_8 0 rfl rfl)
theorem dX3_judge_190 : decode cX3_judge 190 = .ok (.iconst 0, 1) := dk_3 (dk_at dksX3_judge_8 3 rfl rfl)
theorem dX3_judge_191 : decode cX3_judge 191 = .ok (.ireturn, 1) := dk_172 (dk_at dksX3_judge_8 4 rfl rfl)
theorem q134 : (Jvm.Cond.initialized "CoverHouse$Joint") ∈ lw_all := lw_g (lw_at lw_m1 7 rfl) rfl
theorem q245 : (Jvm.Cond.fieldLinkNest "CoverHouse$Joint" (93 : Nat) "CoverHouse$Full" "values" "[I" "CoverHouse") ∈ lw_tbl := lw_at lw_m1 118 rfl
theorem q291 : (Jvm.Cond.instantiable "CoverHouse$Joint" (10 : Nat)) ∈ lw_all := lw_g (lw_at lw_m1 164 rfl) rfl
theorem q293 : (Jvm.Cond.instanceMethod ({ cls := "CoverHouse$Joint", name := "<init>", desc := "(LCoverHouse;)V" } : Jvm.MethodName)) ∈ lw_all := lw_g (lw_at lw_m1 166 rfl) rfl
theorem q294 : (Jvm.Cond.code ({ cls := "CoverHouse$Joint", name := "<init>", desc := "(LCoverHouse;)V" } : Jvm.MethodName) prog_10_method_1_code (3 : Nat) (Option.none : Option Jvm.ClassFile.FieldType)) ∈ lw_all := lw_g (lw_at lw_m1 167 rfl) rfl
theorem q295 : (Jvm.Cond.methodLink "CoverHouse$Joint" (9 : Nat) ({ cls := "java/lang/Object", name := "<init>", desc := "()V" } : Jvm.MethodName)) ∈ lw_all := lw_g (lw_at lw_m1 168 rfl) rfl
theorem q296 : (Jvm.Cond.classLink "CoverHouse$Joint" (15 : Nat) "java/util/ArrayList") ∈ lw_all := lw_g (lw_at lw_m1 169 rfl) rfl
theorem q297 : (Jvm.Cond.methodLink "CoverHouse$Joint" (17 : Nat) ({ cls := "java/util/ArrayList", name := "<init>", desc := "()V" } : Jvm.MethodName)) ∈ lw_all := lw_g (lw_at lw_m1 170 rfl) rfl
theorem q298 : (Jvm.Cond.classLink "CoverHouse$Joint" (33 : Nat) "CoverHouse$Starts") ∈ lw_all := lw_g (lw_at lw_m1 171 rfl) rfl
theorem q300 : (Jvm.Cond.methodLink "CoverHouse$Joint" (35 : Nat) ({ cls := "CoverHouse$Starts", name := "<init>", desc := "(I)V" } : Jvm.MethodName)) ∈ lw_all := lw_g (lw_at lw_m1 173 rfl) rfl
theorem q305 : (Jvm.Cond.fieldLinkNest "CoverHouse$Joint" (98 : Nat) "CoverHouse$Starts" "row" "[I" "CoverHouse") ∈ lw_tbl := lw_at lw_m1 178 rfl
theorem q308 : (Jvm.Cond.fieldLinkNest "CoverHouse$Joint" (77 : Nat) "CoverHouse$Starts" "size" "I" "CoverHouse") ∈ lw_tbl := lw_at lw_m1 181 rfl
theorem q320 : (Jvm.Cond.interfaceEntry "CoverHouse$Joint" (38 : Nat)) ∈ lw_tbl := lw_at lw_m1 193 rfl
theorem q321 : (Jvm.Cond.methodLink "CoverHouse$Joint" (38 : Nat) ({ cls := "java/util/List", name := "add", desc := "(Ljava/lang/Object;)Z" } : Jvm.MethodName)) ∈ lw_all := lw_g (lw_at lw_m1 194 rfl) rfl
theorem q366 : (Jvm.Cond.selects "CoverHouse$Joint" ({ cls := "java/lang/Object", name := "getClass", desc := "()Ljava/lang/Class;" } : Jvm.MethodName) ({ cls := "java/lang/Object", name := "getClass", desc := "()Ljava/lang/Class;" } : Jvm.MethodName)) ∈ lw_all := lw_g (lw_at lw_m1 239 rfl) rfl
theorem q402 : (Jvm.Cond.fieldLink "CoverHouse$Joint" (18 : Nat) "CoverHouse$Joint" "starts" "Ljava/util/List;") ∈ lw_all := lw_g (lw_at lw_m2 35 rfl) rfl
theorem q404 : (Jvm.Cond.fieldLink "CoverHouse$Joint" (53 : Nat) "CoverHouse$Joint" "facts" "I") ∈ lw_all := lw_g (lw_at lw_m2 37 rfl) rfl
theorem q405 : (Jvm.Cond.fieldLink "CoverHouse$Joint" (56 : Nat) "CoverHouse$Joint" "cells" "J") ∈ lw_all := lw_g (lw_at lw_m2 38 rfl) rfl
theorem q406 : (Jvm.Cond.fieldLink "CoverHouse$Joint" (22 : Nat) "CoverHouse$Joint" "apart" "[I") ∈ lw_all := lw_g (lw_at lw_m2 39 rfl) rfl
theorem q408 : (Jvm.Cond.fieldLink "CoverHouse$Joint" (26 : Nat) "CoverHouse$Joint" "isApart" "[Z") ∈ lw_all := lw_g (lw_at lw_m2 41 rfl) rfl
theorem q410 : (Jvm.Cond.fieldLink "CoverHouse$Joint" (101 : Nat) "CoverHouse$Joint" "apartFacts" "I") ∈ lw_all := lw_g (lw_at lw_m2 43 rfl) rfl
theorem q412 : (Jvm.Cond.fieldLink "CoverHouse$Joint" (30 : Nat) "CoverHouse$Joint" "shown" "[I") ∈ lw_all := lw_g (lw_at lw_m2 45 rfl) rfl
theorem q414 : (Jvm.Cond.fieldLink "CoverHouse$Joint" (118 : Nat) "CoverHouse$Joint" "isShown" "Z") ∈ lw_all := lw_g (lw_at lw_m2 47 rfl) rfl
theorem q416 : (Jvm.Cond.fieldLink "CoverHouse$Joint" (122 : Nat) "CoverHouse$Joint" "shownFacts" "I") ∈ lw_all := lw_g (lw_at lw_m2 49 rfl) rfl
theorem q418 : (Jvm.Cond.fieldLink "CoverHouse$Joint" (3 : Nat) "CoverHouse$Joint" "this$0" "LCoverHouse;") ∈ lw_all := lw_g (lw_at lw_m2 51 rfl) rfl
theorem q419 : (Jvm.Cond.laysFinal "CoverHouse$Joint" "CoverHouse$Joint" "starts" "Ljava/util/List;") ∈ lw_all := lw_g (lw_at lw_m2 52 rfl) rfl
theorem q420 : (Jvm.Cond.soleField "CoverHouse$Joint" "starts") ∈ lw_all := lw_g (lw_at lw_m2 53 rfl) rfl
theorem q421 : (Jvm.Cond.lays "CoverHouse$Joint" "CoverHouse$Joint" "facts" "I") ∈ lw_all := lw_g (lw_at lw_m2 54 rfl) rfl
theorem q422 : (Jvm.Cond.soleField "CoverHouse$Joint" "facts") ∈ lw_all := lw_g (lw_at lw_m2 55 rfl) rfl
theorem q423 : (Jvm.Cond.lays "CoverHouse$Joint" "CoverHouse$Joint" "cells" "J") ∈ lw_all := lw_g (lw_at lw_m2 56 rfl) rfl
theorem q424 : (Jvm.Cond.soleField "CoverHouse$Joint" "cells") ∈ lw_all := lw_g (lw_at lw_m2 57 rfl) rfl
theorem q425 : (Jvm.Cond.laysFinal "CoverHouse$Joint" "CoverHouse$Joint" "apart" "[I") ∈ lw_all := lw_g (lw_at lw_m2 58 rfl) rfl
theorem q426 : (Jvm.Cond.soleField "CoverHouse$Joint" "apart") ∈ lw_all := lw_g (lw_at lw_m2 59 rfl) rfl
theorem q427 : (Jvm.Cond.laysFinal "CoverHouse$Joint" "CoverHouse$Joint" "isApart" "[Z") ∈ lw_all := lw_g (lw_at lw_m2 60 rfl) rfl
theorem q428 : (Jvm.Cond.soleField "CoverHouse$Joint" "isApart") ∈ lw_all := lw_g (lw_at lw_m2 61 rfl) rfl
theorem q429 : (Jvm.Cond.lays "CoverHouse$Joint" "CoverHouse$Joint" "apartFacts" "I") ∈ lw_all := lw_g (lw_at lw_m2 62 rfl) rfl
theorem q430 : (Jvm.Cond.soleField "CoverHouse$Joint" "apartFacts") ∈ lw_all := lw_g (lw_at lw_m2 63 rfl) rfl
theorem q431 : (Jvm.Cond.laysFinal "CoverHouse$Joint" "CoverHouse$Joint" "shown" "[I") ∈ lw_all := lw_g (lw_at lw_m2 64 rfl) rfl
theorem q432 : (Jvm.Cond.soleField "CoverHouse$Joint" "shown") ∈ lw_all := lw_g (lw_at lw_m2 65 rfl) rfl
theorem q433 : (Jvm.Cond.lays "CoverHouse$Joint" "CoverHouse$Joint" "isShown" "Z") ∈ lw_all := lw_g (lw_at lw_m2 66 rfl) rfl
theorem q434 : (Jvm.Cond.soleField "CoverHouse$Joint" "isShown") ∈ lw_all := lw_g (lw_at lw_m2 67 rfl) rfl
theorem q435 : (Jvm.Cond.lays "CoverHouse$Joint" "CoverHouse$Joint" "shownFacts" "I") ∈ lw_all := lw_g (lw_at lw_m2 68 rfl) rfl
theorem q436 : (Jvm.Cond.soleField "CoverHouse$Joint" "shownFacts") ∈ lw_all := lw_g (lw_at lw_m2 69 rfl) rfl
theorem q437 : (Jvm.Cond.laysFinal "CoverHouse$Joint" "CoverHouse$Joint" "this$0" "LCoverHouse;") ∈ lw_all := lw_g (lw_at lw_m2 70 rfl) rfl
theorem q438 : (Jvm.Cond.soleField "CoverHouse$Joint" "this$0") ∈ lw_all := lw_g (lw_at lw_m2 71 rfl) rfl
theorem q439 : (Jvm.Cond.superclass "CoverHouse$Joint" "java/lang/Object") ∈ lw_all := lw_g (lw_at lw_m2 72 rfl) rfl
theorem q457 : (Jvm.Cond.fieldLinkNest "CoverHouse$Joint" (89 : Nat) "CoverHouse" "full" "LCoverHouse$Full;" "CoverHouse") ∈ lw_tbl := lw_at lw_m2 90 rfl
theorem q574 : (Jvm.Cond.fieldLinkNest "CoverHouse$Joint" (44 : Nat) "CoverHouse$Wording" "facts" "Ljava/util/List;" "CoverHouse") ∈ lw_tbl := lw_at lw_m2 207 rfl
theorem q608 : (Jvm.Cond.fieldLinkNest "CoverHouse$Joint" (107 : Nat) "CoverHouse$Wording" "answers" "[B" "CoverHouse") ∈ lw_tbl := lw_at lw_m3 1 rfl
theorem q1360 : (Jvm.Cond.instanceMethod ({ cls := "CoverHouse$Joint", name := "isParted", desc := "(LCoverHouse$Wording;LCoverHouse$Wording;LCoverHouse$Cond;)Z" } : Jvm.MethodName)) ∈ lw_all := lw_g (lw_at lw_m6 33 rfl) rfl
theorem q1361 : (Jvm.Cond.selects "CoverHouse$Joint" ({ cls := "CoverHouse$Joint", name := "isParted", desc := "(LCoverHouse$Wording;LCoverHouse$Wording;LCoverHouse$Cond;)Z" } : Jvm.MethodName) ({ cls := "CoverHouse$Joint", name := "isParted", desc := "(LCoverHouse$Wording;LCoverHouse$Wording;LCoverHouse$Cond;)Z" } : Jvm.MethodName)) ∈ lw_all := lw_g (lw_at lw_m6 34 rfl) rfl
theorem q1362 : (Jvm.Cond.code ({ cls := "CoverHouse$Joint", name := "isParted", desc := "(LCoverHouse$Wording;LCoverHouse$Wording;LCoverHouse$Cond;)Z" } : Jvm.MethodName) prog_10_method_2_code (6 : Nat) (Option.some Jvm.ClassFile.FieldType.boolean)) ∈ lw_all := lw_g (lw_at lw_m6 35 rfl) rfl
theorem q1363 : (Jvm.Cond.interfaceEntry "CoverHouse$Joint" (49 : Nat)) ∈ lw_tbl := lw_at lw_m6 36 rfl
theorem q1364 : (Jvm.Cond.methodLink "CoverHouse$Joint" (49 : Nat) ({ cls := "java/util/List", name := "size", desc := "()I" } : Jvm.MethodName)) ∈ lw_all := lw_g (lw_at lw_m6 37 rfl) rfl
theorem q1365 : (Jvm.Cond.interfaceEntry "CoverHouse$Joint" (60 : Nat)) ∈ lw_tbl := lw_at lw_m6 38 rfl
theorem q1366 : (Jvm.Cond.methodLink "CoverHouse$Joint" (60 : Nat) ({ cls := "java/util/List", name := "get", desc := "(I)Ljava/lang/Object;" } : Jvm.MethodName)) ∈ lw_all := lw_g (lw_at lw_m6 39 rfl) rfl
theorem q1367 : (Jvm.Cond.classLink "CoverHouse$Joint" (64 : Nat) "CoverHouse$Fact") ∈ lw_all := lw_g (lw_at lw_m6 40 rfl) rfl
theorem q1368 : (Jvm.Cond.methodLink "CoverHouse$Joint" (66 : Nat) ({ cls := "CoverHouse$Starts", name := "begin", desc := "(LCoverHouse$Fact;)V" } : Jvm.MethodName)) ∈ lw_all := lw_g (lw_at lw_m6 41 rfl) rfl
theorem q1369 : (Jvm.Cond.methodLink "CoverHouse$Joint" (70 : Nat) ({ cls := "CoverHouse$Wording", name := "part", desc := "(ILCoverHouse$Starts;)V" } : Jvm.MethodName)) ∈ lw_all := lw_g (lw_at lw_m6 42 rfl) rfl
theorem q1370 : (Jvm.Cond.methodLink "CoverHouse$Joint" (74 : Nat) ({ cls := "CoverHouse$Cond", name := "part", desc := "(ILCoverHouse$Starts;)V" } : Jvm.MethodName)) ∈ lw_all := lw_g (lw_at lw_m6 43 rfl) rfl
theorem q1371 : (Jvm.Cond.constantLong "CoverHouse$Joint" (79 : Nat) (1000000 : Int64)) ∈ lw_all := lw_g (lw_at lw_m6 44 rfl) rfl
theorem q1372 : (Jvm.Cond.methodLink "CoverHouse$Joint" (81 : Nat) ({ cls := "java/lang/Math", name := "min", desc := "(JJ)J" } : Jvm.MethodName)) ∈ lw_all := lw_g (lw_at lw_m6 45 rfl) rfl
theorem q1373 : (Jvm.Cond.constantLong "CoverHouse$Joint" (87 : Nat) (20000 : Int64)) ∈ lw_all := lw_g (lw_at lw_m6 46 rfl) rfl
theorem q1375 : (Jvm.Cond.instanceMethod ({ cls := "CoverHouse$Joint", name := "compare", desc := "(LCoverHouse$Wording;LCoverHouse$Wording;)I" } : Jvm.MethodName)) ∈ lw_all := lw_g (lw_at lw_m6 48 rfl) rfl
theorem q1376 : (Jvm.Cond.selects "CoverHouse$Joint" ({ cls := "CoverHouse$Joint", name := "compare", desc := "(LCoverHouse$Wording;LCoverHouse$Wording;)I" } : Jvm.MethodName) ({ cls := "CoverHouse$Joint", name := "compare", desc := "(LCoverHouse$Wording;LCoverHouse$Wording;)I" } : Jvm.MethodName)) ∈ lw_all := lw_g (lw_at lw_m6 49 rfl) rfl
theorem q1377 : (Jvm.Cond.code ({ cls := "CoverHouse$Joint", name := "compare", desc := "(LCoverHouse$Wording;LCoverHouse$Wording;)I" } : Jvm.MethodName) prog_10_method_5_code (6 : Nat) (Option.some Jvm.ClassFile.FieldType.int)) ∈ lw_all := lw_g (lw_at lw_m6 50 rfl) rfl
theorem q1378 : (Jvm.Cond.methodLink "CoverHouse$Joint" (104 : Nat) ({ cls := "CoverHouse$Joint", name := "way", desc := "(I)V" } : Jvm.MethodName)) ∈ lw_all := lw_g (lw_at lw_m6 51 rfl) rfl
theorem q1379 : (Jvm.Cond.instanceMethod ({ cls := "CoverHouse$Joint", name := "way", desc := "(I)V" } : Jvm.MethodName)) ∈ lw_all := lw_g (lw_at lw_m6 52 rfl) rfl
theorem q1380 : (Jvm.Cond.selects "CoverHouse$Joint" ({ cls := "CoverHouse$Joint", name := "way", desc := "(I)V" } : Jvm.MethodName) ({ cls := "CoverHouse$Joint", name := "way", desc := "(I)V" } : Jvm.MethodName)) ∈ lw_all := lw_g (lw_at lw_m6 53 rfl) rfl
theorem q1381 : (Jvm.Cond.code ({ cls := "CoverHouse$Joint", name := "way", desc := "(I)V" } : Jvm.MethodName) prog_10_method_3_code (5 : Nat) (Option.none : Option Jvm.ClassFile.FieldType)) ∈ lw_all := lw_g (lw_at lw_m6 54 rfl) rfl
theorem q1382 : (Jvm.Cond.methodLink "CoverHouse$Joint" (111 : Nat) ({ cls := "CoverHouse$Wording", name := "number", desc := "(LCoverHouse$Full;)I" } : Jvm.MethodName)) ∈ lw_all := lw_g (lw_at lw_m6 55 rfl) rfl
theorem q1390 : (Jvm.Cond.methodLink "CoverHouse$Joint" (115 : Nat) ({ cls := "CoverHouse$Joint", name := "keep", desc := "(I)V" } : Jvm.MethodName)) ∈ lw_all := lw_g (lw_at lw_m6 63 rfl) rfl
theorem q1391 : (Jvm.Cond.instanceMethod ({ cls := "CoverHouse$Joint", name := "keep", desc := "(I)V" } : Jvm.MethodName)) ∈ lw_all := lw_g (lw_at lw_m6 64 rfl) rfl
theorem q1392 : (Jvm.Cond.selects "CoverHouse$Joint" ({ cls := "CoverHouse$Joint", name := "keep", desc := "(I)V" } : Jvm.MethodName) ({ cls := "CoverHouse$Joint", name := "keep", desc := "(I)V" } : Jvm.MethodName)) ∈ lw_all := lw_g (lw_at lw_m6 65 rfl) rfl
theorem q1393 : (Jvm.Cond.code ({ cls := "CoverHouse$Joint", name := "keep", desc := "(I)V" } : Jvm.MethodName) prog_10_method_4_code (3 : Nat) (Option.none : Option Jvm.ClassFile.FieldType)) ∈ lw_all := lw_g (lw_at lw_m6 66 rfl) rfl
theorem q1410 : (Jvm.Cond.instanceMethod ({ cls := "CoverHouse$Joint", name := "judge", desc := "(LCoverHouse$Wording;ILCoverHouse$Cond;)I" } : Jvm.MethodName)) ∈ lw_all := lw_g (lw_at lw_m6 83 rfl) rfl
theorem q1411 : (Jvm.Cond.selects "CoverHouse$Joint" ({ cls := "CoverHouse$Joint", name := "judge", desc := "(LCoverHouse$Wording;ILCoverHouse$Cond;)I" } : Jvm.MethodName) ({ cls := "CoverHouse$Joint", name := "judge", desc := "(LCoverHouse$Wording;ILCoverHouse$Cond;)I" } : Jvm.MethodName)) ∈ lw_all := lw_g (lw_at lw_m6 84 rfl) rfl
theorem q1412 : (Jvm.Cond.code ({ cls := "CoverHouse$Joint", name := "judge", desc := "(LCoverHouse$Wording;ILCoverHouse$Cond;)I" } : Jvm.MethodName) prog_10_method_6_code (6 : Nat) (Option.some Jvm.ClassFile.FieldType.int)) ∈ lw_all := lw_g (lw_at lw_m6 85 rfl) rfl
theorem q1413 : (Jvm.Cond.methodLink "CoverHouse$Joint" (125 : Nat) ({ cls := "CoverHouse$Wording", name := "mean", desc := "(LCoverHouse$Full;)V" } : Jvm.MethodName)) ∈ lw_all := lw_g (lw_at lw_m6 86 rfl) rfl
theorem q1414 : (Jvm.Cond.methodLink "CoverHouse$Joint" (129 : Nat) ({ cls := "CoverHouse$Cond", name := "isTrue", desc := "(LCoverHouse$Full;)Z" } : Jvm.MethodName)) ∈ lw_all := lw_g (lw_at lw_m6 87 rfl) rfl
theorem q2693 : (Jvm.Cond.castable "CoverHouse$Joint" "java/lang/Object") ∈ lw_tbl := lw_at lw_m11 166 rfl
theorem in_X3 : ∀ w ∈ wsX30, w ∈ lw_all := lw_in wsX30 [419, 421, 423, 425, 427, 429, 431, 433, 435, 437] (by decide +kernel) (by decide +kernel)

/-! CoverHouse$Starts -/
set_option maxRecDepth 100000
def RX4 : String := "CoverHouse$Starts"
def TX4 : u_T := fun k => match k with
  | 0 => ("CoverHouse$Starts", "row", "[I", true)
  | 1 => ("CoverHouse$Starts", "size", "I", false)
  | _ => ("CoverHouse$Starts", "high", "I", false)
def tyX4 : Nat → FieldType := fun k => match k with
  | 0 => .array .int
  | 1 => .int
  | _ => .int
abbrev wsX40 : List Cond := u_ws RX4 TX4 3
theorem nmX4 : ∀ a, a < 3 → ∀ b, b < 3 → a ≠ b → (TX4 a).2.1 ≠ (TX4 b).2.1 := by decide +kernel
theorem tyX4_ok : ∀ k, k < 3 → parseFieldDescriptor (TX4 k).2.2.1 = some (tyX4 k) := by decide +kernel
abbrev cX4_init : ByteArray := prog_26_method_1_code
def yX4_init : MethodName := ⟨RX4, "<init>", "(I)V"⟩
def dkwX4_init_0 : List UInt8 := [42, 183, 0, 3, 42, 27, 188, 10, 181, 0, 9, 177]
abbrev dktX4_init_0 : List UInt8 := dkwX4_init_0 ++ []
theorem dksX4_init_0 : cX4_init.data.toList.drop 0 = dktX4_init_0 := by decide +kernel
theorem dX4_init_0 : decode cX4_init 0 = .ok (.aload_n 0, 1) := dk_42 (dk_at dksX4_init_0 0 rfl rfl)
theorem dX4_init_1 : decode cX4_init 1 = .ok (.invokespecial 3, 3) := dk_183 0 3 (dk_at dksX4_init_0 1 rfl rfl)
theorem dX4_init_4 : decode cX4_init 4 = .ok (.aload_n 0, 1) := dk_42 (dk_at dksX4_init_0 4 rfl rfl)
theorem dX4_init_5 : decode cX4_init 5 = .ok (.iload_n 1, 1) := dk_27 (dk_at dksX4_init_0 5 rfl rfl)
theorem dX4_init_6 : decode cX4_init 6 = .ok (.newarray .int, 2) := dk_188_10 (dk_at dksX4_init_0 6 rfl rfl)
theorem dX4_init_8 : decode cX4_init 8 = .ok (.putfield 9, 3) := dk_181 0 9 (dk_at dksX4_init_0 8 rfl rfl)
theorem dX4_init_11 : decode cX4_init 11 = .ok (.return_, 1) := dk_177 (dk_at dksX4_init_0 11 rfl rfl)
abbrev cX4_begin : ByteArray := prog_26_method_2_code
def yX4_begin : MethodName := ⟨RX4, "begin", "(LCoverHouse$Fact;)V"⟩
def dkwX4_begin_3 : List UInt8 := [181, 0, 15, 28, 79, 132, 2, 1, 167, 255, 228, 177]
abbrev dktX4_begin_3 : List UInt8 := dkwX4_begin_3 ++ []
def dkwX4_begin_2 : List UInt8 := [180, 0, 28, 61, 28, 43, 180, 0, 19, 163, 0, 26, 42, 180, 0, 9, 42, 89, 180, 0, 15, 90, 4, 96]
abbrev dktX4_begin_2 : List UInt8 := dkwX4_begin_2 ++ dktX4_begin_3
def dkwX4_begin_1 : List UInt8 := [180, 0, 9, 42, 89, 180, 0, 15, 90, 4, 96, 181, 0, 15, 43, 180, 0, 28, 79, 167, 0, 39, 43]
abbrev dktX4_begin_1 : List UInt8 := dkwX4_begin_1 ++ dktX4_begin_2
def dkwX4_begin_0 : List UInt8 := [42, 3, 181, 0, 15, 42, 43, 180, 0, 19, 181, 0, 24, 43, 180, 0, 25, 5, 160, 0, 26, 42]
abbrev dktX4_begin_0 : List UInt8 := dkwX4_begin_0 ++ dktX4_begin_1
theorem dksX4_begin_0 : cX4_begin.data.toList.drop 0 = dktX4_begin_0 := by decide +kernel
theorem dksX4_begin_1 : cX4_begin.data.toList.drop 22 = dktX4_begin_1 := dk_seg dksX4_begin_0 22 rfl rfl
theorem dksX4_begin_2 : cX4_begin.data.toList.drop 45 = dktX4_begin_2 := dk_seg dksX4_begin_1 23 rfl rfl
theorem dksX4_begin_3 : cX4_begin.data.toList.drop 69 = dktX4_begin_3 := dk_seg dksX4_begin_2 24 rfl rfl
theorem dX4_begin_0 : decode cX4_begin 0 = .ok (.aload_n 0, 1) := dk_42 (dk_at dksX4_begin_0 0 rfl rfl)
theorem dX4_begin_1 : decode cX4_begin 1 = .ok (.iconst 0, 1) := dk_3 (dk_at dksX4_begin_0 1 rfl rfl)
theorem dX4_begin_2 : decode cX4_begin 2 = .ok (.putfield 15, 3) := dk_181 0 15 (dk_at dksX4_begin_0 2 rfl rfl)
theorem dX4_begin_5 : decode cX4_begin 5 = .ok (.aload_n 0, 1) := dk_42 (dk_at dksX4_begin_0 5 rfl rfl)
theorem dX4_begin_6 : decode cX4_begin 6 = .ok (.aload_n 1, 1) := dk_43 (dk_at dksX4_begin_0 6 rfl rfl)
theorem dX4_begin_7 : decode cX4_begin 7 = .ok (.getfield 19, 3) := dk_180 0 19 (dk_at dksX4_begin_0 7 rfl rfl)
theorem dX4_begin_10 : decode cX4_begin 10 = .ok (.putfield 24, 3) := dk_181 0 24 (dk_at dksX4_begin_0 10 rfl rfl)
theorem dX4_begin_13 : decode cX4_begin 13 = .ok (.aload_n 1, 1) := dk_43 (dk_at dksX4_begin_0 13 rfl rfl)
theorem dX4_begin_14 : decode cX4_begin 14 = .ok (.getfield 25, 3) := dk_180 0 25 (dk_at dksX4_begin_0 14 rfl rfl)
theorem dX4_begin_17 : decode cX4_begin 17 = .ok (.iconst 2, 1) := dk_5 (dk_at dksX4_begin_0 17 rfl rfl)
theorem dX4_begin_18 : decode cX4_begin 18 = .ok (.if_icmp .ne 26, 3) := dk_160 0 26 (dk_at dksX4_begin_0 18 rfl rfl)
theorem dX4_begin_21 : decode cX4_begin 21 = .ok (.aload_n 0, 1) := dk_42 (dk_at dksX4_begin_0 21 rfl rfl)
theorem dX4_begin_22 : decode cX4_begin 22 = .ok (.getfield 9, 3) := dk_180 0 9 (dk_at dksX4_begin_1 0 rfl rfl)
theorem dX4_begin_25 : decode cX4_begin 25 = .ok (.aload_n 0, 1) := dk_42 (dk_at dksX4_begin_1 3 rfl rfl)
theorem dX4_begin_26 : decode cX4_begin 26 = .ok (.dup, 1) := dk_89 (dk_at dksX4_begin_1 4 rfl rfl)
theorem dX4_begin_27 : decode cX4_begin 27 = .ok (.getfield 15, 3) := dk_180 0 15 (dk_at dksX4_begin_1 5 rfl rfl)
theorem dX4_begin_30 : decode cX4_begin 30 = .ok (.dup_x1, 1) := dk_90 (dk_at dksX4_begin_1 8 rfl rfl)
theorem dX4_begin_31 : decode cX4_begin 31 = .ok (.iconst 1, 1) := dk_4 (dk_at dksX4_begin_1 9 rfl rfl)
theorem dX4_begin_32 : decode cX4_begin 32 = .ok (.iadd, 1) := dk_96 (dk_at dksX4_begin_1 10 rfl rfl)
theorem dX4_begin_33 : decode cX4_begin 33 = .ok (.putfield 15, 3) := dk_181 0 15 (dk_at dksX4_begin_1 11 rfl rfl)
theorem dX4_begin_36 : decode cX4_begin 36 = .ok (.aload_n 1, 1) := dk_43 (dk_at dksX4_begin_1 14 rfl rfl)
theorem dX4_begin_37 : decode cX4_begin 37 = .ok (.getfield 28, 3) := dk_180 0 28 (dk_at dksX4_begin_1 15 rfl rfl)
theorem dX4_begin_40 : decode cX4_begin 40 = .ok (.iastore, 1) := dk_79 (dk_at dksX4_begin_1 18 rfl rfl)
theorem dX4_begin_41 : decode cX4_begin 41 = .ok (.goto 39, 3) := dk_167 0 39 (dk_at dksX4_begin_1 19 rfl rfl)
theorem dX4_begin_44 : decode cX4_begin 44 = .ok (.aload_n 1, 1) := dk_43 (dk_at dksX4_begin_1 22 rfl rfl)
theorem dX4_begin_45 : decode cX4_begin 45 = .ok (.getfield 28, 3) := dk_180 0 28 (dk_at dksX4_begin_2 0 rfl rfl)
theorem dX4_begin_48 : decode cX4_begin 48 = .ok (.istore_n 2, 1) := dk_61 (dk_at dksX4_begin_2 3 rfl rfl)
theorem dX4_begin_49 : decode cX4_begin 49 = .ok (.iload_n 2, 1) := dk_28 (dk_at dksX4_begin_2 4 rfl rfl)
theorem dX4_begin_50 : decode cX4_begin 50 = .ok (.aload_n 1, 1) := dk_43 (dk_at dksX4_begin_2 5 rfl rfl)
theorem dX4_begin_51 : decode cX4_begin 51 = .ok (.getfield 19, 3) := dk_180 0 19 (dk_at dksX4_begin_2 6 rfl rfl)
theorem dX4_begin_54 : decode cX4_begin 54 = .ok (.if_icmp .gt 26, 3) := dk_163 0 26 (dk_at dksX4_begin_2 9 rfl rfl)
theorem dX4_begin_57 : decode cX4_begin 57 = .ok (.aload_n 0, 1) := dk_42 (dk_at dksX4_begin_2 12 rfl rfl)
theorem dX4_begin_58 : decode cX4_begin 58 = .ok (.getfield 9, 3) := dk_180 0 9 (dk_at dksX4_begin_2 13 rfl rfl)
theorem dX4_begin_61 : decode cX4_begin 61 = .ok (.aload_n 0, 1) := dk_42 (dk_at dksX4_begin_2 16 rfl rfl)
theorem dX4_begin_62 : decode cX4_begin 62 = .ok (.dup, 1) := dk_89 (dk_at dksX4_begin_2 17 rfl rfl)
theorem dX4_begin_63 : decode cX4_begin 63 = .ok (.getfield 15, 3) := dk_180 0 15 (dk_at dksX4_begin_2 18 rfl rfl)
theorem dX4_begin_66 : decode cX4_begin 66 = .ok (.dup_x1, 1) := dk_90 (dk_at dksX4_begin_2 21 rfl rfl)
theorem dX4_begin_67 : decode cX4_begin 67 = .ok (.iconst 1, 1) := dk_4 (dk_at dksX4_begin_2 22 rfl rfl)
theorem dX4_begin_68 : decode cX4_begin 68 = .ok (.iadd, 1) := dk_96 (dk_at dksX4_begin_2 23 rfl rfl)
theorem dX4_begin_69 : decode cX4_begin 69 = .ok (.putfield 15, 3) := dk_181 0 15 (dk_at dksX4_begin_3 0 rfl rfl)
theorem dX4_begin_72 : decode cX4_begin 72 = .ok (.iload_n 2, 1) := dk_28 (dk_at dksX4_begin_3 3 rfl rfl)
theorem dX4_begin_73 : decode cX4_begin 73 = .ok (.iastore, 1) := dk_79 (dk_at dksX4_begin_3 4 rfl rfl)
theorem dX4_begin_74 : decode cX4_begin 74 = .ok (.iinc 2 1, 3) := dk_132 2 1 (dk_at dksX4_begin_3 5 rfl rfl)
theorem dX4_begin_77 : decode cX4_begin 77 = .ok (.goto (-28), 3) := dk_167 255 228 (dk_at dksX4_begin_3 8 rfl rfl)
theorem dX4_begin_80 : decode cX4_begin 80 = .ok (.return_, 1) := dk_177 (dk_at dksX4_begin_3 11 rfl rfl)
abbrev cX4_add : ByteArray := prog_26_method_3_code
def yX4_add : MethodName := ⟨RX4, "add", "(I)V"⟩
def dkwX4_add_4 : List UInt8 := [180, 0, 15, 4, 96, 181, 0, 15, 177]
abbrev dktX4_add_4 : List UInt8 := dkwX4_add_4 ++ []
def dkwX4_add_3 : List UInt8 := [180, 0, 9, 29, 4, 100, 46, 79, 132, 3, 255, 167, 255, 234, 42, 180, 0, 9, 28, 27, 79, 42, 89]
abbrev dktX4_add_3 : List UInt8 := dkwX4_add_3 ++ dktX4_add_4
def dkwX4_add_2 : List UInt8 := [100, 46, 27, 160, 0, 4, 177, 42, 180, 0, 15, 62, 29, 28, 164, 0, 23, 42, 180, 0, 9, 29, 42]
abbrev dktX4_add_2 : List UInt8 := dkwX4_add_2 ++ dktX4_add_3
def dkwX4_add_1 : List UInt8 := [42, 180, 0, 9, 28, 4, 100, 46, 27, 164, 0, 9, 132, 2, 255, 167, 255, 241, 42, 180, 0, 9, 28, 4]
abbrev dktX4_add_1 : List UInt8 := dkwX4_add_1 ++ dktX4_add_2
def dkwX4_add_0 : List UInt8 := [27, 42, 180, 0, 9, 3, 46, 164, 0, 11, 27, 42, 180, 0, 24, 164, 0, 4, 177, 42, 180, 0, 15, 61]
abbrev dktX4_add_0 : List UInt8 := dkwX4_add_0 ++ dktX4_add_1
theorem dksX4_add_0 : cX4_add.data.toList.drop 0 = dktX4_add_0 := by decide +kernel
theorem dksX4_add_1 : cX4_add.data.toList.drop 24 = dktX4_add_1 := dk_seg dksX4_add_0 24 rfl rfl
theorem dksX4_add_2 : cX4_add.data.toList.drop 48 = dktX4_add_2 := dk_seg dksX4_add_1 24 rfl rfl
theorem dksX4_add_3 : cX4_add.data.toList.drop 71 = dktX4_add_3 := dk_seg dksX4_add_2 23 rfl rfl
theorem dksX4_add_4 : cX4_add.data.toList.drop 94 = dktX4_add_4 := dk_seg dksX4_add_3 23 rfl rfl
theorem dX4_add_0 : decode cX4_add 0 = .ok (.iload_n 1, 1) := dk_27 (dk_at dksX4_add_0 0 rfl rfl)
theorem dX4_add_1 : decode cX4_add 1 = .ok (.aload_n 0, 1) := dk_42 (dk_at dksX4_add_0 1 rfl rfl)
theorem dX4_add_2 : decode cX4_add 2 = .ok (.getfield 9, 3) := dk_180 0 9 (dk_at dksX4_add_0 2 rfl rfl)
theorem dX4_add_5 : decode cX4_add 5 = .ok (.iconst 0, 1) := dk_3 (dk_at dksX4_add_0 5 rfl rfl)
theorem dX4_add_6 : decode cX4_add 6 = .ok (.iaload, 1) := dk_46 (dk_at dksX4_add_0 6 rfl rfl)
theorem dX4_add_7 : decode cX4_add 7 = .ok (.if_icmp .le 11, 3) := dk_164 0 11 (dk_at dksX4_add_0 7 rfl rfl)
theorem dX4_add_10 : decode cX4_add 10 = .ok (.iload_n 1, 1) := dk_27 (dk_at dksX4_add_0 10 rfl rfl)
theorem dX4_add_11 : decode cX4_add 11 = .ok (.aload_n 0, 1) := dk_42 (dk_at dksX4_add_0 11 rfl rfl)
theorem dX4_add_12 : decode cX4_add 12 = .ok (.getfield 24, 3) := dk_180 0 24 (dk_at dksX4_add_0 12 rfl rfl)
theorem dX4_add_15 : decode cX4_add 15 = .ok (.if_icmp .le 4, 3) := dk_164 0 4 (dk_at dksX4_add_0 15 rfl rfl)
theorem dX4_add_18 : decode cX4_add 18 = .ok (.return_, 1) := dk_177 (dk_at dksX4_add_0 18 rfl rfl)
theorem dX4_add_19 : decode cX4_add 19 = .ok (.aload_n 0, 1) := dk_42 (dk_at dksX4_add_0 19 rfl rfl)
theorem dX4_add_20 : decode cX4_add 20 = .ok (.getfield 15, 3) := dk_180 0 15 (dk_at dksX4_add_0 20 rfl rfl)
theorem dX4_add_23 : decode cX4_add 23 = .ok (.istore_n 2, 1) := dk_61 (dk_at dksX4_add_0 23 rfl rfl)
theorem dX4_add_24 : decode cX4_add 24 = .ok (.aload_n 0, 1) := dk_42 (dk_at dksX4_add_1 0 rfl rfl)
theorem dX4_add_25 : decode cX4_add 25 = .ok (.getfield 9, 3) := dk_180 0 9 (dk_at dksX4_add_1 1 rfl rfl)
theorem dX4_add_28 : decode cX4_add 28 = .ok (.iload_n 2, 1) := dk_28 (dk_at dksX4_add_1 4 rfl rfl)
theorem dX4_add_29 : decode cX4_add 29 = .ok (.iconst 1, 1) := dk_4 (dk_at dksX4_add_1 5 rfl rfl)
theorem dX4_add_30 : decode cX4_add 30 = .ok (.isub, 1) := dk_100 (dk_at dksX4_add_1 6 rfl rfl)
theorem dX4_add_31 : decode cX4_add 31 = .ok (.iaload, 1) := dk_46 (dk_at dksX4_add_1 7 rfl rfl)
theorem dX4_add_32 : decode cX4_add 32 = .ok (.iload_n 1, 1) := dk_27 (dk_at dksX4_add_1 8 rfl rfl)
theorem dX4_add_33 : decode cX4_add 33 = .ok (.if_icmp .le 9, 3) := dk_164 0 9 (dk_at dksX4_add_1 9 rfl rfl)
theorem dX4_add_36 : decode cX4_add 36 = .ok (.iinc 2 (-1), 3) := dk_132 2 255 (dk_at dksX4_add_1 12 rfl rfl)
theorem dX4_add_39 : decode cX4_add 39 = .ok (.goto (-15), 3) := dk_167 255 241 (dk_at dksX4_add_1 15 rfl rfl)
theorem dX4_add_42 : decode cX4_add 42 = .ok (.aload_n 0, 1) := dk_42 (dk_at dksX4_add_1 18 rfl rfl)
theorem dX4_add_43 : decode cX4_add 43 = .ok (.getfield 9, 3) := dk_180 0 9 (dk_at dksX4_add_1 19 rfl rfl)
theorem dX4_add_46 : decode cX4_add 46 = .ok (.iload_n 2, 1) := dk_28 (dk_at dksX4_add_1 22 rfl rfl)
theorem dX4_add_47 : decode cX4_add 47 = .ok (.iconst 1, 1) := dk_4 (dk_at dksX4_add_1 23 rfl rfl)
theorem dX4_add_48 : decode cX4_add 48 = .ok (.isub, 1) := dk_100 (dk_at dksX4_add_2 0 rfl rfl)
theorem dX4_add_49 : decode cX4_add 49 = .ok (.iaload, 1) := dk_46 (dk_at dksX4_add_2 1 rfl rfl)
theorem dX4_add_50 : decode cX4_add 50 = .ok (.iload_n 1, 1) := dk_27 (dk_at dksX4_add_2 2 rfl rfl)
theorem dX4_add_51 : decode cX4_add 51 = .ok (.if_icmp .ne 4, 3) := dk_160 0 4 (dk_at dksX4_add_2 3 rfl rfl)
theorem dX4_add_54 : decode cX4_add 54 = .ok (.return_, 1) := dk_177 (dk_at dksX4_add_2 6 rfl rfl)
theorem dX4_add_55 : decode cX4_add 55 = .ok (.aload_n 0, 1) := dk_42 (dk_at dksX4_add_2 7 rfl rfl)
theorem dX4_add_56 : decode cX4_add 56 = .ok (.getfield 15, 3) := dk_180 0 15 (dk_at dksX4_add_2 8 rfl rfl)
theorem dX4_add_59 : decode cX4_add 59 = .ok (.istore_n 3, 1) := dk_62 (dk_at dksX4_add_2 11 rfl rfl)
theorem dX4_add_60 : decode cX4_add 60 = .ok (.iload_n 3, 1) := dk_29 (dk_at dksX4_add_2 12 rfl rfl)
theorem dX4_add_61 : decode cX4_add 61 = .ok (.iload_n 2, 1) := dk_28 (dk_at dksX4_add_2 13 rfl rfl)
theorem dX4_add_62 : decode cX4_add 62 = .ok (.if_icmp .le 23, 3) := dk_164 0 23 (dk_at dksX4_add_2 14 rfl rfl)
theorem dX4_add_65 : decode cX4_add 65 = .ok (.aload_n 0, 1) := dk_42 (dk_at dksX4_add_2 17 rfl rfl)
theorem dX4_add_66 : decode cX4_add 66 = .ok (.getfield 9, 3) := dk_180 0 9 (dk_at dksX4_add_2 18 rfl rfl)
theorem dX4_add_69 : decode cX4_add 69 = .ok (.iload_n 3, 1) := dk_29 (dk_at dksX4_add_2 21 rfl rfl)
theorem dX4_add_70 : decode cX4_add 70 = .ok (.aload_n 0, 1) := dk_42 (dk_at dksX4_add_2 22 rfl rfl)
theorem dX4_add_71 : decode cX4_add 71 = .ok (.getfield 9, 3) := dk_180 0 9 (dk_at dksX4_add_3 0 rfl rfl)
theorem dX4_add_74 : decode cX4_add 74 = .ok (.iload_n 3, 1) := dk_29 (dk_at dksX4_add_3 3 rfl rfl)
theorem dX4_add_75 : decode cX4_add 75 = .ok (.iconst 1, 1) := dk_4 (dk_at dksX4_add_3 4 rfl rfl)
theorem dX4_add_76 : decode cX4_add 76 = .ok (.isub, 1) := dk_100 (dk_at dksX4_add_3 5 rfl rfl)
theorem dX4_add_77 : decode cX4_add 77 = .ok (.iaload, 1) := dk_46 (dk_at dksX4_add_3 6 rfl rfl)
theorem dX4_add_78 : decode cX4_add 78 = .ok (.iastore, 1) := dk_79 (dk_at dksX4_add_3 7 rfl rfl)
theorem dX4_add_79 : decode cX4_add 79 = .ok (.iinc 3 (-1), 3) := dk_132 3 255 (dk_at dksX4_add_3 8 rfl rfl)
theorem dX4_add_82 : decode cX4_add 82 = .ok (.goto (-22), 3) := dk_167 255 234 (dk_at dksX4_add_3 11 rfl rfl)
theorem dX4_add_85 : decode cX4_add 85 = .ok (.aload_n 0, 1) := dk_42 (dk_at dksX4_add_3 14 rfl rfl)
theorem dX4_add_86 : decode cX4_add 86 = .ok (.getfield 9, 3) := dk_180 0 9 (dk_at dksX4_add_3 15 rfl rfl)
theorem dX4_add_89 : decode cX4_add 89 = .ok (.iload_n 2, 1) := dk_28 (dk_at dksX4_add_3 18 rfl rfl)
theorem dX4_add_90 : decode cX4_add 90 = .ok (.iload_n 1, 1) := dk_27 (dk_at dksX4_add_3 19 rfl rfl)
theorem dX4_add_91 : decode cX4_add 91 = .ok (.iastore, 1) := dk_79 (dk_at dksX4_add_3 20 rfl rfl)
theorem dX4_add_92 : decode cX4_add 92 = .ok (.aload_n 0, 1) := dk_42 (dk_at dksX4_add_3 21 rfl rfl)
theorem dX4_add_93 : decode cX4_add 93 = .ok (.dup, 1) := dk_89 (dk_at dksX4_add_3 22 rfl rfl)
theorem dX4_add_94 : decode cX4_add 94 = .ok (.getfield 15, 3) := dk_180 0 15 (dk_at dksX4_add_4 0 rfl rfl)
theorem dX4_add_97 : decode cX4_add 97 = .ok (.iconst 1, 1) := dk_4 (dk_at dksX4_add_4 3 rfl rfl)
theorem dX4_add_98 : decode cX4_add 98 = .ok (.iadd, 1) := dk_96 (dk_at dksX4_add_4 4 rfl rfl)
theorem dX4_add_99 : decode cX4_add 99 = .ok (.putfield 15, 3) := dk_181 0 15 (dk_at dksX4_add_4 5 rfl rfl)
theorem dX4_add_102 : decode cX4_add 102 = .ok (.return_, 1) := dk_177 (dk_at dksX4_add_4 8 rfl rfl)
abbrev cX4_cutOut : ByteArray := prog_26_method_4_code
def yX4_cutOut : MethodName := ⟨RX4, "cutOut", "()LCoverHouse$Starts;"⟩
def dkwX4_cutOut_2 : List UInt8 := [180, 0, 9, 28, 46, 79, 132, 2, 1, 167, 255, 233, 43, 176]
abbrev dktX4_cutOut_2 : List UInt8 := dkwX4_cutOut_2 ++ []
def dkwX4_cutOut_1 : List UInt8 := [180, 0, 24, 181, 0, 24, 3, 61, 28, 42, 180, 0, 15, 162, 0, 21, 43, 180, 0, 9, 28, 42]
abbrev dktX4_cutOut_1 : List UInt8 := dkwX4_cutOut_1 ++ dktX4_cutOut_2
def dkwX4_cutOut_0 : List UInt8 := [187, 0, 10, 89, 42, 180, 0, 15, 183, 0, 31, 76, 43, 42, 180, 0, 15, 181, 0, 15, 43, 42]
abbrev dktX4_cutOut_0 : List UInt8 := dkwX4_cutOut_0 ++ dktX4_cutOut_1
theorem dksX4_cutOut_0 : cX4_cutOut.data.toList.drop 0 = dktX4_cutOut_0 := by decide +kernel
theorem dksX4_cutOut_1 : cX4_cutOut.data.toList.drop 22 = dktX4_cutOut_1 := dk_seg dksX4_cutOut_0 22 rfl rfl
theorem dksX4_cutOut_2 : cX4_cutOut.data.toList.drop 44 = dktX4_cutOut_2 := dk_seg dksX4_cutOut_1 22 rfl rfl
theorem dX4_cutOut_0 : decode cX4_cutOut 0 = .ok (.new 10, 3) := dk_187 0 10 (dk_at dksX4_cutOut_0 0 rfl rfl)
theorem dX4_cutOut_3 : decode cX4_cutOut 3 = .ok (.dup, 1) := dk_89 (dk_at dksX4_cutOut_0 3 rfl rfl)
theorem dX4_cutOut_4 : decode cX4_cutOut 4 = .ok (.aload_n 0, 1) := dk_42 (dk_at dksX4_cutOut_0 4 rfl rfl)
theorem dX4_cutOut_5 : decode cX4_cutOut 5 = .ok (.getfield 15, 3) := dk_180 0 15 (dk_at dksX4_cutOut_0 5 rfl rfl)
theorem dX4_cutOut_8 : decode cX4_cutOut 8 = .ok (.invokespecial 31, 3) := dk_183 0 31 (dk_at dksX4_cutOut_0 8 rfl rfl)
theorem dX4_cutOut_11 : decode cX4_cutOut 11 = .ok (.astore_n 1, 1) := dk_76 (dk_at dksX4_cutOut_0 11 rfl rfl)
theorem dX4_cutOut_12 : decode cX4_cutOut 12 = .ok (.aload_n 1, 1) := dk_43 (dk_at dksX4_cutOut_0 12 rfl rfl)
theorem dX4_cutOut_13 : decode cX4_cutOut 13 = .ok (.aload_n 0, 1) := dk_42 (dk_at dksX4_cutOut_0 13 rfl rfl)
theorem dX4_cutOut_14 : decode cX4_cutOut 14 = .ok (.getfield 15, 3) := dk_180 0 15 (dk_at dksX4_cutOut_0 14 rfl rfl)
theorem dX4_cutOut_17 : decode cX4_cutOut 17 = .ok (.putfield 15, 3) := dk_181 0 15 (dk_at dksX4_cutOut_0 17 rfl rfl)
theorem dX4_cutOut_20 : decode cX4_cutOut 20 = .ok (.aload_n 1, 1) := dk_43 (dk_at dksX4_cutOut_0 20 rfl rfl)
theorem dX4_cutOut_21 : decode cX4_cutOut 21 = .ok (.aload_n 0, 1) := dk_42 (dk_at dksX4_cutOut_0 21 rfl rfl)
theorem dX4_cutOut_22 : decode cX4_cutOut 22 = .ok (.getfield 24, 3) := dk_180 0 24 (dk_at dksX4_cutOut_1 0 rfl rfl)
theorem dX4_cutOut_25 : decode cX4_cutOut 25 = .ok (.putfield 24, 3) := dk_181 0 24 (dk_at dksX4_cutOut_1 3 rfl rfl)
theorem dX4_cutOut_28 : decode cX4_cutOut 28 = .ok (.iconst 0, 1) := dk_3 (dk_at dksX4_cutOut_1 6 rfl rfl)
theorem dX4_cutOut_29 : decode cX4_cutOut 29 = .ok (.istore_n 2, 1) := dk_61 (dk_at dksX4_cutOut_1 7 rfl rfl)
theorem dX4_cutOut_30 : decode cX4_cutOut 30 = .ok (.iload_n 2, 1) := dk_28 (dk_at dksX4_cutOut_1 8 rfl rfl)
theorem dX4_cutOut_31 : decode cX4_cutOut 31 = .ok (.aload_n 0, 1) := dk_42 (dk_at dksX4_cutOut_1 9 rfl rfl)
theorem dX4_cutOut_32 : decode cX4_cutOut 32 = .ok (.getfield 15, 3) := dk_180 0 15 (dk_at dksX4_cutOut_1 10 rfl rfl)
theorem dX4_cutOut_35 : decode cX4_cutOut 35 = .ok (.if_icmp .ge 21, 3) := dk_162 0 21 (dk_at dksX4_cutOut_1 13 rfl rfl)
theorem dX4_cutOut_38 : decode cX4_cutOut 38 = .ok (.aload_n 1, 1) := dk_43 (dk_at dksX4_cutOut_1 16 rfl rfl)
theorem dX4_cutOut_39 : decode cX4_cutOut 39 = .ok (.getfield 9, 3) := dk_180 0 9 (dk_at dksX4_cutOut_1 17 rfl rfl)
theorem dX4_cutOut_42 : decode cX4_cutOut 42 = .ok (.iload_n 2, 1) := dk_28 (dk_at dksX4_cutOut_1 20 rfl rfl)
theorem dX4_cutOut_43 : decode cX4_cutOut 43 = .ok (.aload_n 0, 1) := dk_42 (dk_at dksX4_cutOut_1 21 rfl rfl)
theorem dX4_cutOut_44 : decode cX4_cutOut 44 = .ok (.getfield 9, 3) := dk_180 0 9 (dk_at dksX4_cutOut_2 0 rfl rfl)
theorem dX4_cutOut_47 : decode cX4_cutOut 47 = .ok (.iload_n 2, 1) := dk_28 (dk_at dksX4_cutOut_2 3 rfl rfl)
theorem dX4_cutOut_48 : decode cX4_cutOut 48 = .ok (.iaload, 1) := dk_46 (dk_at dksX4_cutOut_2 4 rfl rfl)
theorem dX4_cutOut_49 : decode cX4_cutOut 49 = .ok (.iastore, 1) := dk_79 (dk_at dksX4_cutOut_2 5 rfl rfl)
theorem dX4_cutOut_50 : decode cX4_cutOut 50 = .ok (.iinc 2 1, 3) := dk_132 2 1 (dk_at dksX4_cutOut_2 6 rfl rfl)
theorem dX4_cutOut_53 : decode cX4_cutOut 53 = .ok (.goto (-23), 3) := dk_167 255 233 (dk_at dksX4_cutOut_2 9 rfl rfl)
theorem dX4_cutOut_56 : decode cX4_cutOut 56 = .ok (.aload_n 1, 1) := dk_43 (dk_at dksX4_cutOut_2 12 rfl rfl)
theorem dX4_cutOut_57 : decode cX4_cutOut 57 = .ok (.areturn, 1) := dk_176 (dk_at dksX4_cutOut_2 13 rfl rfl)
abbrev cX4_cell : ByteArray := prog_26_method_5_code
def yX4_cell : MethodName := ⟨RX4, "cell", "(I)I"⟩
def dkwX4_cell_1 : List UInt8 := [172]
abbrev dktX4_cell_1 : List UInt8 := dkwX4_cell_1 ++ []
def dkwX4_cell_0 : List UInt8 := [42, 180, 0, 15, 4, 100, 61, 42, 180, 0, 9, 28, 46, 27, 164, 0, 9, 132, 2, 255, 167, 255, 243, 28]
abbrev dktX4_cell_0 : List UInt8 := dkwX4_cell_0 ++ dktX4_cell_1
theorem dksX4_cell_0 : cX4_cell.data.toList.drop 0 = dktX4_cell_0 := by decide +kernel
theorem dksX4_cell_1 : cX4_cell.data.toList.drop 24 = dktX4_cell_1 := dk_seg dksX4_cell_0 24 rfl rfl
theorem dX4_cell_0 : decode cX4_cell 0 = .ok (.aload_n 0, 1) := dk_42 (dk_at dksX4_cell_0 0 rfl rfl)
theorem dX4_cell_1 : decode cX4_cell 1 = .ok (.getfield 15, 3) := dk_180 0 15 (dk_at dksX4_cell_0 1 rfl rfl)
theorem dX4_cell_4 : decode cX4_cell 4 = .ok (.iconst 1, 1) := dk_4 (dk_at dksX4_cell_0 4 rfl rfl)
theorem dX4_cell_5 : decode cX4_cell 5 = .ok (.isub, 1) := dk_100 (dk_at dksX4_cell_0 5 rfl rfl)
theorem dX4_cell_6 : decode cX4_cell 6 = .ok (.istore_n 2, 1) := dk_61 (dk_at dksX4_cell_0 6 rfl rfl)
theorem dX4_cell_7 : decode cX4_cell 7 = .ok (.aload_n 0, 1) := dk_42 (dk_at dksX4_cell_0 7 rfl rfl)
theorem dX4_cell_8 : decode cX4_cell 8 = .ok (.getfield 9, 3) := dk_180 0 9 (dk_at dksX4_cell_0 8 rfl rfl)
theorem dX4_cell_11 : decode cX4_cell 11 = .ok (.iload_n 2, 1) := dk_28 (dk_at dksX4_cell_0 11 rfl rfl)
theorem dX4_cell_12 : decode cX4_cell 12 = .ok (.iaload, 1) := dk_46 (dk_at dksX4_cell_0 12 rfl rfl)
theorem dX4_cell_13 : decode cX4_cell 13 = .ok (.iload_n 1, 1) := dk_27 (dk_at dksX4_cell_0 13 rfl rfl)
theorem dX4_cell_14 : decode cX4_cell 14 = .ok (.if_icmp .le 9, 3) := dk_164 0 9 (dk_at dksX4_cell_0 14 rfl rfl)
theorem dX4_cell_17 : decode cX4_cell 17 = .ok (.iinc 2 (-1), 3) := dk_132 2 255 (dk_at dksX4_cell_0 17 rfl rfl)
theorem dX4_cell_20 : decode cX4_cell 20 = .ok (.goto (-13), 3) := dk_167 255 243 (dk_at dksX4_cell_0 20 rfl rfl)
theorem dX4_cell_23 : decode cX4_cell 23 = .ok (.iload_n 2, 1) := dk_28 (dk_at dksX4_cell_0 23 rfl rfl)
theorem dX4_cell_24 : decode cX4_cell 24 = .ok (.ireturn, 1) := dk_172 (dk_at dksX4_cell_1 0 rfl rfl)
theorem q135 : (Jvm.Cond.initialized "CoverHouse$Starts") ∈ lw_all := lw_g (lw_at lw_m1 8 rfl) rfl
theorem q299 : (Jvm.Cond.instantiable "CoverHouse$Starts" (3 : Nat)) ∈ lw_all := lw_g (lw_at lw_m1 172 rfl) rfl
theorem q301 : (Jvm.Cond.instanceMethod ({ cls := "CoverHouse$Starts", name := "<init>", desc := "(I)V" } : Jvm.MethodName)) ∈ lw_all := lw_g (lw_at lw_m1 174 rfl) rfl
theorem q302 : (Jvm.Cond.code ({ cls := "CoverHouse$Starts", name := "<init>", desc := "(I)V" } : Jvm.MethodName) prog_26_method_1_code (2 : Nat) (Option.none : Option Jvm.ClassFile.FieldType)) ∈ lw_all := lw_g (lw_at lw_m1 175 rfl) rfl
theorem q303 : (Jvm.Cond.methodLink "CoverHouse$Starts" (3 : Nat) ({ cls := "java/lang/Object", name := "<init>", desc := "()V" } : Jvm.MethodName)) ∈ lw_all := lw_g (lw_at lw_m1 176 rfl) rfl
theorem q304 : (Jvm.Cond.fieldLink "CoverHouse$Starts" (9 : Nat) "CoverHouse$Starts" "row" "[I") ∈ lw_all := lw_g (lw_at lw_m1 177 rfl) rfl
theorem q307 : (Jvm.Cond.fieldLink "CoverHouse$Starts" (15 : Nat) "CoverHouse$Starts" "size" "I") ∈ lw_all := lw_g (lw_at lw_m1 180 rfl) rfl
theorem q312 : (Jvm.Cond.fieldLink "CoverHouse$Starts" (24 : Nat) "CoverHouse$Starts" "high" "I") ∈ lw_all := lw_g (lw_at lw_m1 185 rfl) rfl
theorem q313 : (Jvm.Cond.laysFinal "CoverHouse$Starts" "CoverHouse$Starts" "row" "[I") ∈ lw_all := lw_g (lw_at lw_m1 186 rfl) rfl
theorem q314 : (Jvm.Cond.soleField "CoverHouse$Starts" "row") ∈ lw_all := lw_g (lw_at lw_m1 187 rfl) rfl
theorem q315 : (Jvm.Cond.lays "CoverHouse$Starts" "CoverHouse$Starts" "size" "I") ∈ lw_all := lw_g (lw_at lw_m1 188 rfl) rfl
theorem q316 : (Jvm.Cond.soleField "CoverHouse$Starts" "size") ∈ lw_all := lw_g (lw_at lw_m1 189 rfl) rfl
theorem q317 : (Jvm.Cond.lays "CoverHouse$Starts" "CoverHouse$Starts" "high" "I") ∈ lw_all := lw_g (lw_at lw_m1 190 rfl) rfl
theorem q318 : (Jvm.Cond.soleField "CoverHouse$Starts" "high") ∈ lw_all := lw_g (lw_at lw_m1 191 rfl) rfl
theorem q319 : (Jvm.Cond.superclass "CoverHouse$Starts" "java/lang/Object") ∈ lw_all := lw_g (lw_at lw_m1 192 rfl) rfl
theorem q381 : (Jvm.Cond.selects "CoverHouse$Starts" ({ cls := "java/lang/Object", name := "getClass", desc := "()Ljava/lang/Class;" } : Jvm.MethodName) ({ cls := "java/lang/Object", name := "getClass", desc := "()Ljava/lang/Class;" } : Jvm.MethodName)) ∈ lw_all := lw_g (lw_at lw_m2 14 rfl) rfl
theorem q850 : (Jvm.Cond.fieldLinkNest "CoverHouse$Starts" (25 : Nat) "CoverHouse$Fact" "kind" "I" "CoverHouse") ∈ lw_tbl := lw_at lw_m4 3 rfl
theorem q858 : (Jvm.Cond.fieldLinkNest "CoverHouse$Starts" (28 : Nat) "CoverHouse$Fact" "low" "I" "CoverHouse") ∈ lw_tbl := lw_at lw_m4 11 rfl
theorem q863 : (Jvm.Cond.fieldLinkNest "CoverHouse$Starts" (19 : Nat) "CoverHouse$Fact" "high" "I" "CoverHouse") ∈ lw_tbl := lw_at lw_m4 16 rfl
theorem q1143 : (Jvm.Cond.instanceMethod ({ cls := "CoverHouse$Starts", name := "begin", desc := "(LCoverHouse$Fact;)V" } : Jvm.MethodName)) ∈ lw_all := lw_g (lw_at lw_m5 56 rfl) rfl
theorem q1144 : (Jvm.Cond.selects "CoverHouse$Starts" ({ cls := "CoverHouse$Starts", name := "begin", desc := "(LCoverHouse$Fact;)V" } : Jvm.MethodName) ({ cls := "CoverHouse$Starts", name := "begin", desc := "(LCoverHouse$Fact;)V" } : Jvm.MethodName)) ∈ lw_all := lw_g (lw_at lw_m5 57 rfl) rfl
theorem q1145 : (Jvm.Cond.code ({ cls := "CoverHouse$Starts", name := "begin", desc := "(LCoverHouse$Fact;)V" } : Jvm.MethodName) prog_26_method_2_code (3 : Nat) (Option.none : Option Jvm.ClassFile.FieldType)) ∈ lw_all := lw_g (lw_at lw_m5 58 rfl) rfl
theorem q1169 : (Jvm.Cond.instanceMethod ({ cls := "CoverHouse$Starts", name := "add", desc := "(I)V" } : Jvm.MethodName)) ∈ lw_all := lw_g (lw_at lw_m5 82 rfl) rfl
theorem q1170 : (Jvm.Cond.selects "CoverHouse$Starts" ({ cls := "CoverHouse$Starts", name := "add", desc := "(I)V" } : Jvm.MethodName) ({ cls := "CoverHouse$Starts", name := "add", desc := "(I)V" } : Jvm.MethodName)) ∈ lw_all := lw_g (lw_at lw_m5 83 rfl) rfl
theorem q1171 : (Jvm.Cond.code ({ cls := "CoverHouse$Starts", name := "add", desc := "(I)V" } : Jvm.MethodName) prog_26_method_3_code (4 : Nat) (Option.none : Option Jvm.ClassFile.FieldType)) ∈ lw_all := lw_g (lw_at lw_m5 84 rfl) rfl
theorem q1189 : (Jvm.Cond.instanceMethod ({ cls := "CoverHouse$Starts", name := "cutOut", desc := "()LCoverHouse$Starts;" } : Jvm.MethodName)) ∈ lw_all := lw_g (lw_at lw_m5 102 rfl) rfl
theorem q1190 : (Jvm.Cond.selects "CoverHouse$Starts" ({ cls := "CoverHouse$Starts", name := "cutOut", desc := "()LCoverHouse$Starts;" } : Jvm.MethodName) ({ cls := "CoverHouse$Starts", name := "cutOut", desc := "()LCoverHouse$Starts;" } : Jvm.MethodName)) ∈ lw_all := lw_g (lw_at lw_m5 103 rfl) rfl
theorem q1191 : (Jvm.Cond.code ({ cls := "CoverHouse$Starts", name := "cutOut", desc := "()LCoverHouse$Starts;" } : Jvm.MethodName) prog_26_method_4_code (3 : Nat) (Option.some (Jvm.ClassFile.FieldType.object "CoverHouse$Starts"))) ∈ lw_all := lw_g (lw_at lw_m5 104 rfl) rfl
theorem q1192 : (Jvm.Cond.classLink "CoverHouse$Starts" (10 : Nat) "CoverHouse$Starts") ∈ lw_all := lw_g (lw_at lw_m5 105 rfl) rfl
theorem q1193 : (Jvm.Cond.methodLink "CoverHouse$Starts" (31 : Nat) ({ cls := "CoverHouse$Starts", name := "<init>", desc := "(I)V" } : Jvm.MethodName)) ∈ lw_all := lw_g (lw_at lw_m5 106 rfl) rfl
theorem q1387 : (Jvm.Cond.instanceMethod ({ cls := "CoverHouse$Starts", name := "cell", desc := "(I)I" } : Jvm.MethodName)) ∈ lw_all := lw_g (lw_at lw_m6 60 rfl) rfl
theorem q1388 : (Jvm.Cond.selects "CoverHouse$Starts" ({ cls := "CoverHouse$Starts", name := "cell", desc := "(I)I" } : Jvm.MethodName) ({ cls := "CoverHouse$Starts", name := "cell", desc := "(I)I" } : Jvm.MethodName)) ∈ lw_all := lw_g (lw_at lw_m6 61 rfl) rfl
theorem q1389 : (Jvm.Cond.code ({ cls := "CoverHouse$Starts", name := "cell", desc := "(I)I" } : Jvm.MethodName) prog_26_method_5_code (3 : Nat) (Option.some Jvm.ClassFile.FieldType.int)) ∈ lw_all := lw_g (lw_at lw_m6 62 rfl) rfl
theorem q2694 : (Jvm.Cond.castable "CoverHouse$Starts" "java/lang/Object") ∈ lw_tbl := lw_at lw_m11 167 rfl
theorem in_X4 : ∀ w ∈ wsX40, w ∈ lw_all := lw_in wsX40 [313, 315, 317] (by decide +kernel) (by decide +kernel)

/-! CoverHouse$Wording -/
set_option maxRecDepth 100000
def RX6 : String := "CoverHouse$Wording"
def TX6 : u_T := fun k => match k with
  | 0 => ("CoverHouse$Wording", "facts", "Ljava/util/List;", true)
  | 1 => ("CoverHouse$Wording", "meaningNames", "Ljava/util/List;", true)
  | 2 => ("CoverHouse$Wording", "meanings", "Ljava/util/List;", true)
  | 3 => ("CoverHouse$Wording", "clauses", "Ljava/util/List;", true)
  | 4 => ("CoverHouse$Wording", "rows", "Ljava/util/List;", true)
  | 5 => ("CoverHouse$Wording", "first", "I", false)
  | 6 => ("CoverHouse$Wording", "share", "I", false)
  | 7 => ("CoverHouse$Wording", "most", "[I", true)
  | 8 => ("CoverHouse$Wording", "otherNodes", "I", false)
  | 9 => ("CoverHouse$Wording", "nodes", "I", false)
  | 10 => ("CoverHouse$Wording", "starts", "Ljava/util/List;", true)
  | 11 => ("CoverHouse$Wording", "cells", "I", false)
  | 12 => ("CoverHouse$Wording", "answers", "[B", false)
  | _ => ("CoverHouse$Wording", "deciders", "[B", false)
def tyX6 : Nat → FieldType := fun k => match k with
  | 0 => .object "java/util/List"
  | 1 => .object "java/util/List"
  | 2 => .object "java/util/List"
  | 3 => .object "java/util/List"
  | 4 => .object "java/util/List"
  | 5 => .int
  | 6 => .int
  | 7 => .array .int
  | 8 => .int
  | 9 => .int
  | 10 => .object "java/util/List"
  | 11 => .int
  | 12 => .array .byte
  | _ => .array .byte
abbrev wsX60 : List Cond := u_ws RX6 TX6 14
set_option maxRecDepth 100000 in
theorem nmX6 : ∀ a, a < 14 → ∀ b, b < 14 → a ≠ b → (TX6 a).2.1 ≠ (TX6 b).2.1 := by decide +kernel
set_option maxRecDepth 100000 in
theorem tyX6_ok : ∀ k, k < 14 → parseFieldDescriptor (TX6 k).2.2.1 = some (tyX6 k) := by decide +kernel
abbrev cX6_init : ByteArray := prog_28_method_1_code
def yX6_init : MethodName := ⟨RX6, "<init>", "()V"⟩
def dkwX6_init_4 : List UInt8 := [181, 0, 37, 42, 187, 0, 9, 89, 183, 0, 11, 181, 0, 41, 177]
abbrev dktX6_init_4 : List UInt8 := dkwX6_init_4 ++ []
def dkwX6_init_3 : List UInt8 := [181, 0, 34, 42, 6, 188, 10, 89, 3, 16, 253, 79, 89, 4, 16, 253, 79, 89, 5, 16, 253, 79]
abbrev dktX6_init_3 : List UInt8 := dkwX6_init_3 ++ dktX6_init_4
def dkwX6_init_2 : List UInt8 := [181, 0, 24, 42, 187, 0, 9, 89, 183, 0, 11, 181, 0, 27, 42, 16, 253, 181, 0, 30, 42, 16, 253]
abbrev dktX6_init_2 : List UInt8 := dkwX6_init_2 ++ dktX6_init_3
def dkwX6_init_1 : List UInt8 := [181, 0, 18, 42, 187, 0, 9, 89, 183, 0, 11, 181, 0, 21, 42, 187, 0, 9, 89, 183, 0, 11]
abbrev dktX6_init_1 : List UInt8 := dkwX6_init_1 ++ dktX6_init_2
def dkwX6_init_0 : List UInt8 := [42, 183, 0, 3, 42, 187, 0, 9, 89, 183, 0, 11, 181, 0, 12, 42, 187, 0, 9, 89, 183, 0, 11]
abbrev dktX6_init_0 : List UInt8 := dkwX6_init_0 ++ dktX6_init_1
theorem dksX6_init_0 : cX6_init.data.toList.drop 0 = dktX6_init_0 := by decide +kernel
theorem dksX6_init_1 : cX6_init.data.toList.drop 23 = dktX6_init_1 := dk_seg dksX6_init_0 23 rfl rfl
theorem dksX6_init_2 : cX6_init.data.toList.drop 45 = dktX6_init_2 := dk_seg dksX6_init_1 22 rfl rfl
theorem dksX6_init_3 : cX6_init.data.toList.drop 68 = dktX6_init_3 := dk_seg dksX6_init_2 23 rfl rfl
theorem dksX6_init_4 : cX6_init.data.toList.drop 90 = dktX6_init_4 := dk_seg dksX6_init_3 22 rfl rfl
theorem dX6_init_0 : decode cX6_init 0 = .ok (.aload_n 0, 1) := dk_42 (dk_at dksX6_init_0 0 rfl rfl)
theorem dX6_init_1 : decode cX6_init 1 = .ok (.invokespecial 3, 3) := dk_183 0 3 (dk_at dksX6_init_0 1 rfl rfl)
theorem dX6_init_4 : decode cX6_init 4 = .ok (.aload_n 0, 1) := dk_42 (dk_at dksX6_init_0 4 rfl rfl)
theorem dX6_init_5 : decode cX6_init 5 = .ok (.new 9, 3) := dk_187 0 9 (dk_at dksX6_init_0 5 rfl rfl)
theorem dX6_init_8 : decode cX6_init 8 = .ok (.dup, 1) := dk_89 (dk_at dksX6_init_0 8 rfl rfl)
theorem dX6_init_9 : decode cX6_init 9 = .ok (.invokespecial 11, 3) := dk_183 0 11 (dk_at dksX6_init_0 9 rfl rfl)
theorem dX6_init_12 : decode cX6_init 12 = .ok (.putfield 12, 3) := dk_181 0 12 (dk_at dksX6_init_0 12 rfl rfl)
theorem dX6_init_15 : decode cX6_init 15 = .ok (.aload_n 0, 1) := dk_42 (dk_at dksX6_init_0 15 rfl rfl)
theorem dX6_init_16 : decode cX6_init 16 = .ok (.new 9, 3) := dk_187 0 9 (dk_at dksX6_init_0 16 rfl rfl)
theorem dX6_init_19 : decode cX6_init 19 = .ok (.dup, 1) := dk_89 (dk_at dksX6_init_0 19 rfl rfl)
theorem dX6_init_20 : decode cX6_init 20 = .ok (.invokespecial 11, 3) := dk_183 0 11 (dk_at dksX6_init_0 20 rfl rfl)
theorem dX6_init_23 : decode cX6_init 23 = .ok (.putfield 18, 3) := dk_181 0 18 (dk_at dksX6_init_1 0 rfl rfl)
theorem dX6_init_26 : decode cX6_init 26 = .ok (.aload_n 0, 1) := dk_42 (dk_at dksX6_init_1 3 rfl rfl)
theorem dX6_init_27 : decode cX6_init 27 = .ok (.new 9, 3) := dk_187 0 9 (dk_at dksX6_init_1 4 rfl rfl)
theorem dX6_init_30 : decode cX6_init 30 = .ok (.dup, 1) := dk_89 (dk_at dksX6_init_1 7 rfl rfl)
theorem dX6_init_31 : decode cX6_init 31 = .ok (.invokespecial 11, 3) := dk_183 0 11 (dk_at dksX6_init_1 8 rfl rfl)
theorem dX6_init_34 : decode cX6_init 34 = .ok (.putfield 21, 3) := dk_181 0 21 (dk_at dksX6_init_1 11 rfl rfl)
theorem dX6_init_37 : decode cX6_init 37 = .ok (.aload_n 0, 1) := dk_42 (dk_at dksX6_init_1 14 rfl rfl)
theorem dX6_init_38 : decode cX6_init 38 = .ok (.new 9, 3) := dk_187 0 9 (dk_at dksX6_init_1 15 rfl rfl)
theorem dX6_init_41 : decode cX6_init 41 = .ok (.dup, 1) := dk_89 (dk_at dksX6_init_1 18 rfl rfl)
theorem dX6_init_42 : decode cX6_init 42 = .ok (.invokespecial 11, 3) := dk_183 0 11 (dk_at dksX6_init_1 19 rfl rfl)
theorem dX6_init_45 : decode cX6_init 45 = .ok (.putfield 24, 3) := dk_181 0 24 (dk_at dksX6_init_2 0 rfl rfl)
theorem dX6_init_48 : decode cX6_init 48 = .ok (.aload_n 0, 1) := dk_42 (dk_at dksX6_init_2 3 rfl rfl)
theorem dX6_init_49 : decode cX6_init 49 = .ok (.new 9, 3) := dk_187 0 9 (dk_at dksX6_init_2 4 rfl rfl)
theorem dX6_init_52 : decode cX6_init 52 = .ok (.dup, 1) := dk_89 (dk_at dksX6_init_2 7 rfl rfl)
theorem dX6_init_53 : decode cX6_init 53 = .ok (.invokespecial 11, 3) := dk_183 0 11 (dk_at dksX6_init_2 8 rfl rfl)
theorem dX6_init_56 : decode cX6_init 56 = .ok (.putfield 27, 3) := dk_181 0 27 (dk_at dksX6_init_2 11 rfl rfl)
theorem dX6_init_59 : decode cX6_init 59 = .ok (.aload_n 0, 1) := dk_42 (dk_at dksX6_init_2 14 rfl rfl)
theorem dX6_init_60 : decode cX6_init 60 = .ok (.bipush (-3), 2) := dk_16 253 (dk_at dksX6_init_2 15 rfl rfl)
theorem dX6_init_62 : decode cX6_init 62 = .ok (.putfield 30, 3) := dk_181 0 30 (dk_at dksX6_init_2 17 rfl rfl)
theorem dX6_init_65 : decode cX6_init 65 = .ok (.aload_n 0, 1) := dk_42 (dk_at dksX6_init_2 20 rfl rfl)
theorem dX6_init_66 : decode cX6_init 66 = .ok (.bipush (-3), 2) := dk_16 253 (dk_at dksX6_init_2 21 rfl rfl)
theorem dX6_init_68 : decode cX6_init 68 = .ok (.putfield 34, 3) := dk_181 0 34 (dk_at dksX6_init_3 0 rfl rfl)
theorem dX6_init_71 : decode cX6_init 71 = .ok (.aload_n 0, 1) := dk_42 (dk_at dksX6_init_3 3 rfl rfl)
theorem dX6_init_72 : decode cX6_init 72 = .ok (.iconst 3, 1) := dk_6 (dk_at dksX6_init_3 4 rfl rfl)
theorem dX6_init_73 : decode cX6_init 73 = .ok (.newarray .int, 2) := dk_188_10 (dk_at dksX6_init_3 5 rfl rfl)
theorem dX6_init_75 : decode cX6_init 75 = .ok (.dup, 1) := dk_89 (dk_at dksX6_init_3 7 rfl rfl)
theorem dX6_init_76 : decode cX6_init 76 = .ok (.iconst 0, 1) := dk_3 (dk_at dksX6_init_3 8 rfl rfl)
theorem dX6_init_77 : decode cX6_init 77 = .ok (.bipush (-3), 2) := dk_16 253 (dk_at dksX6_init_3 9 rfl rfl)
theorem dX6_init_79 : decode cX6_init 79 = .ok (.iastore, 1) := dk_79 (dk_at dksX6_init_3 11 rfl rfl)
theorem dX6_init_80 : decode cX6_init 80 = .ok (.dup, 1) := dk_89 (dk_at dksX6_init_3 12 rfl rfl)
theorem dX6_init_81 : decode cX6_init 81 = .ok (.iconst 1, 1) := dk_4 (dk_at dksX6_init_3 13 rfl rfl)
theorem dX6_init_82 : decode cX6_init 82 = .ok (.bipush (-3), 2) := dk_16 253 (dk_at dksX6_init_3 14 rfl rfl)
theorem dX6_init_84 : decode cX6_init 84 = .ok (.iastore, 1) := dk_79 (dk_at dksX6_init_3 16 rfl rfl)
theorem dX6_init_85 : decode cX6_init 85 = .ok (.dup, 1) := dk_89 (dk_at dksX6_init_3 17 rfl rfl)
theorem dX6_init_86 : decode cX6_init 86 = .ok (.iconst 2, 1) := dk_5 (dk_at dksX6_init_3 18 rfl rfl)
theorem dX6_init_87 : decode cX6_init 87 = .ok (.bipush (-3), 2) := dk_16 253 (dk_at dksX6_init_3 19 rfl rfl)
theorem dX6_init_89 : decode cX6_init 89 = .ok (.iastore, 1) := dk_79 (dk_at dksX6_init_3 21 rfl rfl)
theorem dX6_init_90 : decode cX6_init 90 = .ok (.putfield 37, 3) := dk_181 0 37 (dk_at dksX6_init_4 0 rfl rfl)
theorem dX6_init_93 : decode cX6_init 93 = .ok (.aload_n 0, 1) := dk_42 (dk_at dksX6_init_4 3 rfl rfl)
theorem dX6_init_94 : decode cX6_init 94 = .ok (.new 9, 3) := dk_187 0 9 (dk_at dksX6_init_4 4 rfl rfl)
theorem dX6_init_97 : decode cX6_init 97 = .ok (.dup, 1) := dk_89 (dk_at dksX6_init_4 7 rfl rfl)
theorem dX6_init_98 : decode cX6_init 98 = .ok (.invokespecial 11, 3) := dk_183 0 11 (dk_at dksX6_init_4 8 rfl rfl)
theorem dX6_init_101 : decode cX6_init 101 = .ok (.putfield 41, 3) := dk_181 0 41 (dk_at dksX6_init_4 11 rfl rfl)
theorem dX6_init_104 : decode cX6_init 104 = .ok (.return_, 1) := dk_177 (dk_at dksX6_init_4 14 rfl rfl)
abbrev cX6_fact : ByteArray := prog_28_method_2_code
def yX6_fact : MethodName := ⟨RX6, "fact", "(J)I"⟩
def dkwX6_fact_2 : List UInt8 := [2, 172]
abbrev dktX6_fact_2 : List UInt8 := dkwX6_fact_2 ++ []
def dkwX6_fact_1 : List UInt8 := [185, 0, 50, 2, 0, 192, 0, 54, 180, 0, 56, 31, 148, 154, 0, 5, 29, 172, 132, 3, 1, 167, 255, 217]
abbrev dktX6_fact_1 : List UInt8 := dkwX6_fact_1 ++ dktX6_fact_2
def dkwX6_fact_0 : List UInt8 := [3, 62, 29, 42, 180, 0, 12, 185, 0, 44, 1, 0, 162, 0, 32, 42, 180, 0, 12, 29]
abbrev dktX6_fact_0 : List UInt8 := dkwX6_fact_0 ++ dktX6_fact_1
theorem dksX6_fact_0 : cX6_fact.data.toList.drop 0 = dktX6_fact_0 := by decide +kernel
theorem dksX6_fact_1 : cX6_fact.data.toList.drop 20 = dktX6_fact_1 := dk_seg dksX6_fact_0 20 rfl rfl
theorem dksX6_fact_2 : cX6_fact.data.toList.drop 44 = dktX6_fact_2 := dk_seg dksX6_fact_1 24 rfl rfl
theorem dX6_fact_0 : decode cX6_fact 0 = .ok (.iconst 0, 1) := dk_3 (dk_at dksX6_fact_0 0 rfl rfl)
theorem dX6_fact_1 : decode cX6_fact 1 = .ok (.istore_n 3, 1) := dk_62 (dk_at dksX6_fact_0 1 rfl rfl)
theorem dX6_fact_2 : decode cX6_fact 2 = .ok (.iload_n 3, 1) := dk_29 (dk_at dksX6_fact_0 2 rfl rfl)
theorem dX6_fact_3 : decode cX6_fact 3 = .ok (.aload_n 0, 1) := dk_42 (dk_at dksX6_fact_0 3 rfl rfl)
theorem dX6_fact_4 : decode cX6_fact 4 = .ok (.getfield 12, 3) := dk_180 0 12 (dk_at dksX6_fact_0 4 rfl rfl)
theorem dX6_fact_7 : decode cX6_fact 7 = .ok (.invokeinterface 44 1, 5) := by decide +kernel
theorem dX6_fact_12 : decode cX6_fact 12 = .ok (.if_icmp .ge 32, 3) := dk_162 0 32 (dk_at dksX6_fact_0 12 rfl rfl)
theorem dX6_fact_15 : decode cX6_fact 15 = .ok (.aload_n 0, 1) := dk_42 (dk_at dksX6_fact_0 15 rfl rfl)
theorem dX6_fact_16 : decode cX6_fact 16 = .ok (.getfield 12, 3) := dk_180 0 12 (dk_at dksX6_fact_0 16 rfl rfl)
theorem dX6_fact_19 : decode cX6_fact 19 = .ok (.iload_n 3, 1) := dk_29 (dk_at dksX6_fact_0 19 rfl rfl)
theorem dX6_fact_20 : decode cX6_fact 20 = .ok (.invokeinterface 50 2, 5) := by decide +kernel
theorem dX6_fact_25 : decode cX6_fact 25 = .ok (.checkcast 54, 3) := dk_192 0 54 (dk_at dksX6_fact_1 5 rfl rfl)
theorem dX6_fact_28 : decode cX6_fact 28 = .ok (.getfield 56, 3) := dk_180 0 56 (dk_at dksX6_fact_1 8 rfl rfl)
theorem dX6_fact_31 : decode cX6_fact 31 = .ok (.lload_n 1, 1) := dk_31 (dk_at dksX6_fact_1 11 rfl rfl)
theorem dX6_fact_32 : decode cX6_fact 32 = .ok (.lcmp, 1) := dk_148 (dk_at dksX6_fact_1 12 rfl rfl)
theorem dX6_fact_33 : decode cX6_fact 33 = .ok (.ifCond .ne 5, 3) := dk_154 0 5 (dk_at dksX6_fact_1 13 rfl rfl)
theorem dX6_fact_36 : decode cX6_fact 36 = .ok (.iload_n 3, 1) := dk_29 (dk_at dksX6_fact_1 16 rfl rfl)
theorem dX6_fact_37 : decode cX6_fact 37 = .ok (.ireturn, 1) := dk_172 (dk_at dksX6_fact_1 17 rfl rfl)
theorem dX6_fact_38 : decode cX6_fact 38 = .ok (.iinc 3 1, 3) := dk_132 3 1 (dk_at dksX6_fact_1 18 rfl rfl)
theorem dX6_fact_41 : decode cX6_fact 41 = .ok (.goto (-39), 3) := dk_167 255 217 (dk_at dksX6_fact_1 21 rfl rfl)
theorem dX6_fact_44 : decode cX6_fact 44 = .ok (.iconst (-1), 1) := dk_2 (dk_at dksX6_fact_2 0 rfl rfl)
theorem dX6_fact_45 : decode cX6_fact 45 = .ok (.ireturn, 1) := dk_172 (dk_at dksX6_fact_2 1 rfl rfl)
abbrev cX6_meaning : ByteArray := prog_28_method_3_code
def yX6_meaning : MethodName := ⟨RX6, "meaning", "(J)I"⟩
def dkwX6_meaning_2 : List UInt8 := [2, 172]
abbrev dktX6_meaning_2 : List UInt8 := dkwX6_meaning_2 ++ []
def dkwX6_meaning_1 : List UInt8 := [185, 0, 50, 2, 0, 192, 0, 60, 182, 0, 62, 31, 148, 154, 0, 5, 29, 172, 132, 3, 1, 167, 255, 217]
abbrev dktX6_meaning_1 : List UInt8 := dkwX6_meaning_1 ++ dktX6_meaning_2
def dkwX6_meaning_0 : List UInt8 := [3, 62, 29, 42, 180, 0, 18, 185, 0, 44, 1, 0, 162, 0, 32, 42, 180, 0, 18, 29]
abbrev dktX6_meaning_0 : List UInt8 := dkwX6_meaning_0 ++ dktX6_meaning_1
theorem dksX6_meaning_0 : cX6_meaning.data.toList.drop 0 = dktX6_meaning_0 := by decide +kernel
theorem dksX6_meaning_1 : cX6_meaning.data.toList.drop 20 = dktX6_meaning_1 := dk_seg dksX6_meaning_0 20 rfl rfl
theorem dksX6_meaning_2 : cX6_meaning.data.toList.drop 44 = dktX6_meaning_2 := dk_seg dksX6_meaning_1 24 rfl rfl
theorem dX6_meaning_0 : decode cX6_meaning 0 = .ok (.iconst 0, 1) := dk_3 (dk_at dksX6_meaning_0 0 rfl rfl)
theorem dX6_meaning_1 : decode cX6_meaning 1 = .ok (.istore_n 3, 1) := dk_62 (dk_at dksX6_meaning_0 1 rfl rfl)
theorem dX6_meaning_2 : decode cX6_meaning 2 = .ok (.iload_n 3, 1) := dk_29 (dk_at dksX6_meaning_0 2 rfl rfl)
theorem dX6_meaning_3 : decode cX6_meaning 3 = .ok (.aload_n 0, 1) := dk_42 (dk_at dksX6_meaning_0 3 rfl rfl)
theorem dX6_meaning_4 : decode cX6_meaning 4 = .ok (.getfield 18, 3) := dk_180 0 18 (dk_at dksX6_meaning_0 4 rfl rfl)
theorem dX6_meaning_7 : decode cX6_meaning 7 = .ok (.invokeinterface 44 1, 5) := by decide +kernel
theorem dX6_meaning_12 : decode cX6_meaning 12 = .ok (.if_icmp .ge 32, 3) := dk_162 0 32 (dk_at dksX6_meaning_0 12 rfl rfl)
theorem dX6_meaning_15 : decode cX6_meaning 15 = .ok (.aload_n 0, 1) := dk_42 (dk_at dksX6_meaning_0 15 rfl rfl)
theorem dX6_meaning_16 : decode cX6_meaning 16 = .ok (.getfield 18, 3) := dk_180 0 18 (dk_at dksX6_meaning_0 16 rfl rfl)
theorem dX6_meaning_19 : decode cX6_meaning 19 = .ok (.iload_n 3, 1) := dk_29 (dk_at dksX6_meaning_0 19 rfl rfl)
theorem dX6_meaning_20 : decode cX6_meaning 20 = .ok (.invokeinterface 50 2, 5) := by decide +kernel
theorem dX6_meaning_25 : decode cX6_meaning 25 = .ok (.checkcast 60, 3) := dk_192 0 60 (dk_at dksX6_meaning_1 5 rfl rfl)
theorem dX6_meaning_28 : decode cX6_meaning 28 = .ok (.invokevirtual 62, 3) := dk_182 0 62 (dk_at dksX6_meaning_1 8 rfl rfl)
theorem dX6_meaning_31 : decode cX6_meaning 31 = .ok (.lload_n 1, 1) := dk_31 (dk_at dksX6_meaning_1 11 rfl rfl)
theorem dX6_meaning_32 : decode cX6_meaning 32 = .ok (.lcmp, 1) := dk_148 (dk_at dksX6_meaning_1 12 rfl rfl)
theorem dX6_meaning_33 : decode cX6_meaning 33 = .ok (.ifCond .ne 5, 3) := dk_154 0 5 (dk_at dksX6_meaning_1 13 rfl rfl)
theorem dX6_meaning_36 : decode cX6_meaning 36 = .ok (.iload_n 3, 1) := dk_29 (dk_at dksX6_meaning_1 16 rfl rfl)
theorem dX6_meaning_37 : decode cX6_meaning 37 = .ok (.ireturn, 1) := dk_172 (dk_at dksX6_meaning_1 17 rfl rfl)
theorem dX6_meaning_38 : decode cX6_meaning 38 = .ok (.iinc 3 1, 3) := dk_132 3 1 (dk_at dksX6_meaning_1 18 rfl rfl)
theorem dX6_meaning_41 : decode cX6_meaning 41 = .ok (.goto (-39), 3) := dk_167 255 217 (dk_at dksX6_meaning_1 21 rfl rfl)
theorem dX6_meaning_44 : decode cX6_meaning 44 = .ok (.iconst (-1), 1) := dk_2 (dk_at dksX6_meaning_2 0 rfl rfl)
theorem dX6_meaning_45 : decode cX6_meaning 45 = .ok (.ireturn, 1) := dk_172 (dk_at dksX6_meaning_2 1 rfl rfl)
abbrev cX6_isParted : ByteArray := prog_28_method_7_code
def yX6_isParted : MethodName := ⟨RX6, "isParted", "(Ljava/util/List;)Z"⟩
def dkwX6_isParted_6 : List UInt8 := [167, 255, 207, 32, 20, 0, 112, 148, 157, 0, 7, 4, 167, 0, 4, 3, 172]
abbrev dktX6_isParted_6 : List UInt8 := dkwX6_isParted_6 ++ []
def dkwX6_isParted_5 : List UInt8 := [43, 21, 4, 185, 0, 50, 2, 0, 192, 0, 92, 182, 0, 114, 185, 0, 118, 2, 0, 87, 132, 4, 1]
abbrev dktX6_isParted_5 : List UInt8 := dkwX6_isParted_5 ++ dktX6_isParted_6
def dkwX6_isParted_4 : List UInt8 := [42, 180, 0, 12, 185, 0, 44, 1, 0, 162, 0, 41, 32, 20, 0, 112, 148, 157, 0, 33, 42, 180, 0, 41]
abbrev dktX6_isParted_4 : List UInt8 := dkwX6_isParted_4 ++ dktX6_isParted_5
def dkwX6_isParted_3 : List UInt8 := [20, 0, 101, 184, 0, 103, 65, 132, 4, 1, 167, 255, 184, 42, 32, 136, 181, 0, 109, 3, 54, 4, 21, 4]
abbrev dktX6_isParted_3 : List UInt8 := dkwX6_isParted_3 ++ dktX6_isParted_4
def dkwX6_isParted_2 : List UInt8 := [192, 0, 54, 182, 0, 94, 42, 21, 4, 25, 5, 182, 0, 98, 32, 25, 5, 180, 0, 99, 133, 105]
abbrev dktX6_isParted_2 : List UInt8 := dkwX6_isParted_2 ++ dktX6_isParted_3
def dkwX6_isParted_1 : List UInt8 := [185, 0, 50, 2, 0, 192, 0, 92, 58, 5, 25, 5, 42, 180, 0, 12, 21, 4, 185, 0, 50, 2, 0]
abbrev dktX6_isParted_1 : List UInt8 := dkwX6_isParted_1 ++ dktX6_isParted_2
def dkwX6_isParted_0 : List UInt8 := [10, 65, 3, 54, 4, 21, 4, 42, 180, 0, 12, 185, 0, 44, 1, 0, 162, 0, 64, 43, 21, 4]
abbrev dktX6_isParted_0 : List UInt8 := dkwX6_isParted_0 ++ dktX6_isParted_1
theorem dksX6_isParted_0 : cX6_isParted.data.toList.drop 0 = dktX6_isParted_0 := by decide +kernel
theorem dksX6_isParted_1 : cX6_isParted.data.toList.drop 22 = dktX6_isParted_1 := dk_seg dksX6_isParted_0 22 rfl rfl
theorem dksX6_isParted_2 : cX6_isParted.data.toList.drop 45 = dktX6_isParted_2 := dk_seg dksX6_isParted_1 23 rfl rfl
theorem dksX6_isParted_3 : cX6_isParted.data.toList.drop 67 = dktX6_isParted_3 := dk_seg dksX6_isParted_2 22 rfl rfl
theorem dksX6_isParted_4 : cX6_isParted.data.toList.drop 91 = dktX6_isParted_4 := dk_seg dksX6_isParted_3 24 rfl rfl
theorem dksX6_isParted_5 : cX6_isParted.data.toList.drop 115 = dktX6_isParted_5 := dk_seg dksX6_isParted_4 24 rfl rfl
theorem dksX6_isParted_6 : cX6_isParted.data.toList.drop 138 = dktX6_isParted_6 := dk_seg dksX6_isParted_5 23 rfl rfl
theorem dX6_isParted_0 : decode cX6_isParted 0 = .ok (.lconst 1, 1) := dk_10 (dk_at dksX6_isParted_0 0 rfl rfl)
theorem dX6_isParted_1 : decode cX6_isParted 1 = .ok (.lstore_n 2, 1) := dk_65 (dk_at dksX6_isParted_0 1 rfl rfl)
theorem dX6_isParted_2 : decode cX6_isParted 2 = .ok (.iconst 0, 1) := dk_3 (dk_at dksX6_isParted_0 2 rfl rfl)
theorem dX6_isParted_3 : decode cX6_isParted 3 = .ok (.istore 4, 2) := dk_54 4 (dk_at dksX6_isParted_0 3 rfl rfl)
theorem dX6_isParted_5 : decode cX6_isParted 5 = .ok (.iload 4, 2) := dk_21 4 (dk_at dksX6_isParted_0 5 rfl rfl)
theorem dX6_isParted_7 : decode cX6_isParted 7 = .ok (.aload_n 0, 1) := dk_42 (dk_at dksX6_isParted_0 7 rfl rfl)
theorem dX6_isParted_8 : decode cX6_isParted 8 = .ok (.getfield 12, 3) := dk_180 0 12 (dk_at dksX6_isParted_0 8 rfl rfl)
theorem dX6_isParted_11 : decode cX6_isParted 11 = .ok (.invokeinterface 44 1, 5) := by decide +kernel
theorem dX6_isParted_16 : decode cX6_isParted 16 = .ok (.if_icmp .ge 64, 3) := dk_162 0 64 (dk_at dksX6_isParted_0 16 rfl rfl)
theorem dX6_isParted_19 : decode cX6_isParted 19 = .ok (.aload_n 1, 1) := dk_43 (dk_at dksX6_isParted_0 19 rfl rfl)
theorem dX6_isParted_20 : decode cX6_isParted 20 = .ok (.iload 4, 2) := dk_21 4 (dk_at dksX6_isParted_0 20 rfl rfl)
theorem dX6_isParted_22 : decode cX6_isParted 22 = .ok (.invokeinterface 50 2, 5) := by decide +kernel
theorem dX6_isParted_27 : decode cX6_isParted 27 = .ok (.checkcast 92, 3) := dk_192 0 92 (dk_at dksX6_isParted_1 5 rfl rfl)
theorem dX6_isParted_30 : decode cX6_isParted 30 = .ok (.astore 5, 2) := dk_58 5 (dk_at dksX6_isParted_1 8 rfl rfl)
theorem dX6_isParted_32 : decode cX6_isParted 32 = .ok (.aload 5, 2) := dk_25 5 (dk_at dksX6_isParted_1 10 rfl rfl)
theorem dX6_isParted_34 : decode cX6_isParted 34 = .ok (.aload_n 0, 1) := dk_42 (dk_at dksX6_isParted_1 12 rfl rfl)
theorem dX6_isParted_35 : decode cX6_isParted 35 = .ok (.getfield 12, 3) := dk_180 0 12 (dk_at dksX6_isParted_1 13 rfl rfl)
theorem dX6_isParted_38 : decode cX6_isParted 38 = .ok (.iload 4, 2) := dk_21 4 (dk_at dksX6_isParted_1 16 rfl rfl)
theorem dX6_isParted_40 : decode cX6_isParted 40 = .ok (.invokeinterface 50 2, 5) := by decide +kernel
theorem dX6_isParted_45 : decode cX6_isParted 45 = .ok (.checkcast 54, 3) := dk_192 0 54 (dk_at dksX6_isParted_2 0 rfl rfl)
theorem dX6_isParted_48 : decode cX6_isParted 48 = .ok (.invokevirtual 94, 3) := dk_182 0 94 (dk_at dksX6_isParted_2 3 rfl rfl)
theorem dX6_isParted_51 : decode cX6_isParted 51 = .ok (.aload_n 0, 1) := dk_42 (dk_at dksX6_isParted_2 6 rfl rfl)
theorem dX6_isParted_52 : decode cX6_isParted 52 = .ok (.iload 4, 2) := dk_21 4 (dk_at dksX6_isParted_2 7 rfl rfl)
theorem dX6_isParted_54 : decode cX6_isParted 54 = .ok (.aload 5, 2) := dk_25 5 (dk_at dksX6_isParted_2 9 rfl rfl)
theorem dX6_isParted_56 : decode cX6_isParted 56 = .ok (.invokevirtual 98, 3) := dk_182 0 98 (dk_at dksX6_isParted_2 11 rfl rfl)
theorem dX6_isParted_59 : decode cX6_isParted 59 = .ok (.lload_n 2, 1) := dk_32 (dk_at dksX6_isParted_2 14 rfl rfl)
theorem dX6_isParted_60 : decode cX6_isParted 60 = .ok (.aload 5, 2) := dk_25 5 (dk_at dksX6_isParted_2 15 rfl rfl)
theorem dX6_isParted_62 : decode cX6_isParted 62 = .ok (.getfield 99, 3) := dk_180 0 99 (dk_at dksX6_isParted_2 17 rfl rfl)
theorem dX6_isParted_65 : decode cX6_isParted 65 = .ok (.i2l, 1) := dk_133 (dk_at dksX6_isParted_2 20 rfl rfl)
theorem dX6_isParted_66 : decode cX6_isParted 66 = .ok (.lmul, 1) := dk_105 (dk_at dksX6_isParted_2 21 rfl rfl)
theorem dX6_isParted_67 : decode cX6_isParted 67 = .ok (.ldc2_w 101, 3) := dk_20 0 101 (dk_at dksX6_isParted_3 0 rfl rfl)
theorem dX6_isParted_70 : decode cX6_isParted 70 = .ok (.invokestatic 103, 3) := dk_184 0 103 (dk_at dksX6_isParted_3 3 rfl rfl)
theorem dX6_isParted_73 : decode cX6_isParted 73 = .ok (.lstore_n 2, 1) := dk_65 (dk_at dksX6_isParted_3 6 rfl rfl)
theorem dX6_isParted_74 : decode cX6_isParted 74 = .ok (.iinc 4 1, 3) := dk_132 4 1 (dk_at dksX6_isParted_3 7 rfl rfl)
theorem dX6_isParted_77 : decode cX6_isParted 77 = .ok (.goto (-72), 3) := dk_167 255 184 (dk_at dksX6_isParted_3 10 rfl rfl)
theorem dX6_isParted_80 : decode cX6_isParted 80 = .ok (.aload_n 0, 1) := dk_42 (dk_at dksX6_isParted_3 13 rfl rfl)
theorem dX6_isParted_81 : decode cX6_isParted 81 = .ok (.lload_n 2, 1) := dk_32 (dk_at dksX6_isParted_3 14 rfl rfl)
theorem dX6_isParted_82 : decode cX6_isParted 82 = .ok (.l2i, 1) := dk_136 (dk_at dksX6_isParted_3 15 rfl rfl)
theorem dX6_isParted_83 : decode cX6_isParted 83 = .ok (.putfield 109, 3) := dk_181 0 109 (dk_at dksX6_isParted_3 16 rfl rfl)
theorem dX6_isParted_86 : decode cX6_isParted 86 = .ok (.iconst 0, 1) := dk_3 (dk_at dksX6_isParted_3 19 rfl rfl)
theorem dX6_isParted_87 : decode cX6_isParted 87 = .ok (.istore 4, 2) := dk_54 4 (dk_at dksX6_isParted_3 20 rfl rfl)
theorem dX6_isParted_89 : decode cX6_isParted 89 = .ok (.iload 4, 2) := dk_21 4 (dk_at dksX6_isParted_3 22 rfl rfl)
theorem dX6_isParted_91 : decode cX6_isParted 91 = .ok (.aload_n 0, 1) := dk_42 (dk_at dksX6_isParted_4 0 rfl rfl)
theorem dX6_isParted_92 : decode cX6_isParted 92 = .ok (.getfield 12, 3) := dk_180 0 12 (dk_at dksX6_isParted_4 1 rfl rfl)
theorem dX6_isParted_95 : decode cX6_isParted 95 = .ok (.invokeinterface 44 1, 5) := by decide +kernel
theorem dX6_isParted_100 : decode cX6_isParted 100 = .ok (.if_icmp .ge 41, 3) := dk_162 0 41 (dk_at dksX6_isParted_4 9 rfl rfl)
theorem dX6_isParted_103 : decode cX6_isParted 103 = .ok (.lload_n 2, 1) := dk_32 (dk_at dksX6_isParted_4 12 rfl rfl)
theorem dX6_isParted_104 : decode cX6_isParted 104 = .ok (.ldc2_w 112, 3) := dk_20 0 112 (dk_at dksX6_isParted_4 13 rfl rfl)
theorem dX6_isParted_107 : decode cX6_isParted 107 = .ok (.lcmp, 1) := dk_148 (dk_at dksX6_isParted_4 16 rfl rfl)
theorem dX6_isParted_108 : decode cX6_isParted 108 = .ok (.ifCond .gt 33, 3) := dk_157 0 33 (dk_at dksX6_isParted_4 17 rfl rfl)
theorem dX6_isParted_111 : decode cX6_isParted 111 = .ok (.aload_n 0, 1) := dk_42 (dk_at dksX6_isParted_4 20 rfl rfl)
theorem dX6_isParted_112 : decode cX6_isParted 112 = .ok (.getfield 41, 3) := dk_180 0 41 (dk_at dksX6_isParted_4 21 rfl rfl)
theorem dX6_isParted_115 : decode cX6_isParted 115 = .ok (.aload_n 1, 1) := dk_43 (dk_at dksX6_isParted_5 0 rfl rfl)
theorem dX6_isParted_116 : decode cX6_isParted 116 = .ok (.iload 4, 2) := dk_21 4 (dk_at dksX6_isParted_5 1 rfl rfl)
theorem dX6_isParted_118 : decode cX6_isParted 118 = .ok (.invokeinterface 50 2, 5) := by decide +kernel
theorem dX6_isParted_123 : decode cX6_isParted 123 = .ok (.checkcast 92, 3) := dk_192 0 92 (dk_at dksX6_isParted_5 8 rfl rfl)
theorem dX6_isParted_126 : decode cX6_isParted 126 = .ok (.invokevirtual 114, 3) := dk_182 0 114 (dk_at dksX6_isParted_5 11 rfl rfl)
theorem dX6_isParted_129 : decode cX6_isParted 129 = .ok (.invokeinterface 118 2, 5) := by decide +kernel
theorem dX6_isParted_134 : decode cX6_isParted 134 = .ok (.pop, 1) := dk_87 (dk_at dksX6_isParted_5 19 rfl rfl)
theorem dX6_isParted_135 : decode cX6_isParted 135 = .ok (.iinc 4 1, 3) := dk_132 4 1 (dk_at dksX6_isParted_5 20 rfl rfl)
theorem dX6_isParted_138 : decode cX6_isParted 138 = .ok (.goto (-49), 3) := dk_167 255 207 (dk_at dksX6_isParted_6 0 rfl rfl)
theorem dX6_isParted_141 : decode cX6_isParted 141 = .ok (.lload_n 2, 1) := dk_32 (dk_at dksX6_isParted_6 3 rfl rfl)
theorem dX6_isParted_142 : decode cX6_isParted 142 = .ok (.ldc2_w 112, 3) := dk_20 0 112 (dk_at dksX6_isParted_6 4 rfl rfl)
theorem dX6_isParted_145 : decode cX6_isParted 145 = .ok (.lcmp, 1) := dk_148 (dk_at dksX6_isParted_6 7 rfl rfl)
theorem dX6_isParted_146 : decode cX6_isParted 146 = .ok (.ifCond .gt 7, 3) := dk_157 0 7 (dk_at dksX6_isParted_6 8 rfl rfl)
theorem dX6_isParted_149 : decode cX6_isParted 149 = .ok (.iconst 1, 1) := dk_4 (dk_at dksX6_isParted_6 11 rfl rfl)
theorem dX6_isParted_150 : decode cX6_isParted 150 = .ok (.goto 4, 3) := dk_167 0 4 (dk_at dksX6_isParted_6 12 rfl rfl)
theorem dX6_isParted_153 : decode cX6_isParted 153 = .ok (.iconst 0, 1) := dk_3 (dk_at dksX6_isParted_6 15 rfl rfl)
theorem dX6_isParted_154 : decode cX6_isParted 154 = .ok (.ireturn, 1) := dk_172 (dk_at dksX6_isParted_6 16 rfl rfl)
abbrev cX6_part : ByteArray := prog_28_method_6_code
def yX6_part : MethodName := ⟨RX6, "part", "(ILCoverHouse$Starts;)V"⟩
def dkwX6_part_6 : List UInt8 := [132, 3, 1, 167, 255, 200, 177]
abbrev dktX6_part_6 : List UInt8 := dkwX6_part_6 ++ []
def dkwX6_part_5 : List UInt8 := [198, 0, 24, 42, 180, 0, 27, 29, 185, 0, 50, 2, 0, 192, 0, 89, 180, 0, 91, 27, 44, 182, 0, 81]
abbrev dktX6_part_5 : List UInt8 := dkwX6_part_5 ++ dktX6_part_6
def dkwX6_part_4 : List UInt8 := [185, 0, 44, 1, 0, 162, 0, 49, 42, 180, 0, 27, 29, 185, 0, 50, 2, 0, 192, 0, 89, 180, 0, 91]
abbrev dktX6_part_4 : List UInt8 := dkwX6_part_4 ++ dktX6_part_5
def dkwX6_part_3 : List UInt8 := [180, 0, 85, 27, 44, 182, 0, 81, 132, 3, 1, 167, 255, 219, 3, 62, 29, 42, 180, 0, 27]
abbrev dktX6_part_3 : List UInt8 := dkwX6_part_3 ++ dktX6_part_4
def dkwX6_part_2 : List UInt8 := [180, 0, 24, 185, 0, 44, 1, 0, 162, 0, 30, 42, 180, 0, 24, 29, 185, 0, 50, 2, 0, 192, 0, 76]
abbrev dktX6_part_2 : List UInt8 := dkwX6_part_2 ++ dktX6_part_3
def dkwX6_part_1 : List UInt8 := [185, 0, 50, 2, 0, 192, 0, 79, 27, 44, 182, 0, 81, 132, 3, 1, 167, 255, 222, 3, 62, 29, 42]
abbrev dktX6_part_1 : List UInt8 := dkwX6_part_1 ++ dktX6_part_2
def dkwX6_part_0 : List UInt8 := [3, 62, 29, 42, 180, 0, 21, 185, 0, 44, 1, 0, 162, 0, 27, 42, 180, 0, 21, 29]
abbrev dktX6_part_0 : List UInt8 := dkwX6_part_0 ++ dktX6_part_1
theorem dksX6_part_0 : cX6_part.data.toList.drop 0 = dktX6_part_0 := by decide +kernel
theorem dksX6_part_1 : cX6_part.data.toList.drop 20 = dktX6_part_1 := dk_seg dksX6_part_0 20 rfl rfl
theorem dksX6_part_2 : cX6_part.data.toList.drop 43 = dktX6_part_2 := dk_seg dksX6_part_1 23 rfl rfl
theorem dksX6_part_3 : cX6_part.data.toList.drop 67 = dktX6_part_3 := dk_seg dksX6_part_2 24 rfl rfl
theorem dksX6_part_4 : cX6_part.data.toList.drop 88 = dktX6_part_4 := dk_seg dksX6_part_3 21 rfl rfl
theorem dksX6_part_5 : cX6_part.data.toList.drop 112 = dktX6_part_5 := dk_seg dksX6_part_4 24 rfl rfl
theorem dksX6_part_6 : cX6_part.data.toList.drop 136 = dktX6_part_6 := dk_seg dksX6_part_5 24 rfl rfl
theorem dX6_part_0 : decode cX6_part 0 = .ok (.iconst 0, 1) := dk_3 (dk_at dksX6_part_0 0 rfl rfl)
theorem dX6_part_1 : decode cX6_part 1 = .ok (.istore_n 3, 1) := dk_62 (dk_at dksX6_part_0 1 rfl rfl)
theorem dX6_part_2 : decode cX6_part 2 = .ok (.iload_n 3, 1) := dk_29 (dk_at dksX6_part_0 2 rfl rfl)
theorem dX6_part_3 : decode cX6_part 3 = .ok (.aload_n 0, 1) := dk_42 (dk_at dksX6_part_0 3 rfl rfl)
theorem dX6_part_4 : decode cX6_part 4 = .ok (.getfield 21, 3) := dk_180 0 21 (dk_at dksX6_part_0 4 rfl rfl)
theorem dX6_part_7 : decode cX6_part 7 = .ok (.invokeinterface 44 1, 5) := by decide +kernel
theorem dX6_part_12 : decode cX6_part 12 = .ok (.if_icmp .ge 27, 3) := dk_162 0 27 (dk_at dksX6_part_0 12 rfl rfl)
theorem dX6_part_15 : decode cX6_part 15 = .ok (.aload_n 0, 1) := dk_42 (dk_at dksX6_part_0 15 rfl rfl)
theorem dX6_part_16 : decode cX6_part 16 = .ok (.getfield 21, 3) := dk_180 0 21 (dk_at dksX6_part_0 16 rfl rfl)
theorem dX6_part_19 : decode cX6_part 19 = .ok (.iload_n 3, 1) := dk_29 (dk_at dksX6_part_0 19 rfl rfl)
theorem dX6_part_20 : decode cX6_part 20 = .ok (.invokeinterface 50 2, 5) := by decide +kernel
theorem dX6_part_25 : decode cX6_part 25 = .ok (.checkcast 79, 3) := dk_192 0 79 (dk_at dksX6_part_1 5 rfl rfl)
theorem dX6_part_28 : decode cX6_part 28 = .ok (.iload_n 1, 1) := dk_27 (dk_at dksX6_part_1 8 rfl rfl)
theorem dX6_part_29 : decode cX6_part 29 = .ok (.aload_n 2, 1) := dk_44 (dk_at dksX6_part_1 9 rfl rfl)
theorem dX6_part_30 : decode cX6_part 30 = .ok (.invokevirtual 81, 3) := dk_182 0 81 (dk_at dksX6_part_1 10 rfl rfl)
theorem dX6_part_33 : decode cX6_part 33 = .ok (.iinc 3 1, 3) := dk_132 3 1 (dk_at dksX6_part_1 13 rfl rfl)
theorem dX6_part_36 : decode cX6_part 36 = .ok (.goto (-34), 3) := dk_167 255 222 (dk_at dksX6_part_1 16 rfl rfl)
theorem dX6_part_39 : decode cX6_part 39 = .ok (.iconst 0, 1) := dk_3 (dk_at dksX6_part_1 19 rfl rfl)
theorem dX6_part_40 : decode cX6_part 40 = .ok (.istore_n 3, 1) := dk_62 (dk_at dksX6_part_1 20 rfl rfl)
theorem dX6_part_41 : decode cX6_part 41 = .ok (.iload_n 3, 1) := dk_29 (dk_at dksX6_part_1 21 rfl rfl)
theorem dX6_part_42 : decode cX6_part 42 = .ok (.aload_n 0, 1) := dk_42 (dk_at dksX6_part_1 22 rfl rfl)
theorem dX6_part_43 : decode cX6_part 43 = .ok (.getfield 24, 3) := dk_180 0 24 (dk_at dksX6_part_2 0 rfl rfl)
theorem dX6_part_46 : decode cX6_part 46 = .ok (.invokeinterface 44 1, 5) := by decide +kernel
theorem dX6_part_51 : decode cX6_part 51 = .ok (.if_icmp .ge 30, 3) := dk_162 0 30 (dk_at dksX6_part_2 8 rfl rfl)
theorem dX6_part_54 : decode cX6_part 54 = .ok (.aload_n 0, 1) := dk_42 (dk_at dksX6_part_2 11 rfl rfl)
theorem dX6_part_55 : decode cX6_part 55 = .ok (.getfield 24, 3) := dk_180 0 24 (dk_at dksX6_part_2 12 rfl rfl)
theorem dX6_part_58 : decode cX6_part 58 = .ok (.iload_n 3, 1) := dk_29 (dk_at dksX6_part_2 15 rfl rfl)
theorem dX6_part_59 : decode cX6_part 59 = .ok (.invokeinterface 50 2, 5) := by decide +kernel
theorem dX6_part_64 : decode cX6_part 64 = .ok (.checkcast 76, 3) := dk_192 0 76 (dk_at dksX6_part_2 21 rfl rfl)
theorem dX6_part_67 : decode cX6_part 67 = .ok (.getfield 85, 3) := dk_180 0 85 (dk_at dksX6_part_3 0 rfl rfl)
theorem dX6_part_70 : decode cX6_part 70 = .ok (.iload_n 1, 1) := dk_27 (dk_at dksX6_part_3 3 rfl rfl)
theorem dX6_part_71 : decode cX6_part 71 = .ok (.aload_n 2, 1) := dk_44 (dk_at dksX6_part_3 4 rfl rfl)
theorem dX6_part_72 : decode cX6_part 72 = .ok (.invokevirtual 81, 3) := dk_182 0 81 (dk_at dksX6_part_3 5 rfl rfl)
theorem dX6_part_75 : decode cX6_part 75 = .ok (.iinc 3 1, 3) := dk_132 3 1 (dk_at dksX6_part_3 8 rfl rfl)
theorem dX6_part_78 : decode cX6_part 78 = .ok (.goto (-37), 3) := dk_167 255 219 (dk_at dksX6_part_3 11 rfl rfl)
theorem dX6_part_81 : decode cX6_part 81 = .ok (.iconst 0, 1) := dk_3 (dk_at dksX6_part_3 14 rfl rfl)
theorem dX6_part_82 : decode cX6_part 82 = .ok (.istore_n 3, 1) := dk_62 (dk_at dksX6_part_3 15 rfl rfl)
theorem dX6_part_83 : decode cX6_part 83 = .ok (.iload_n 3, 1) := dk_29 (dk_at dksX6_part_3 16 rfl rfl)
theorem dX6_part_84 : decode cX6_part 84 = .ok (.aload_n 0, 1) := dk_42 (dk_at dksX6_part_3 17 rfl rfl)
theorem dX6_part_85 : decode cX6_part 85 = .ok (.getfield 27, 3) := dk_180 0 27 (dk_at dksX6_part_3 18 rfl rfl)
theorem dX6_part_88 : decode cX6_part 88 = .ok (.invokeinterface 44 1, 5) := by decide +kernel
theorem dX6_part_93 : decode cX6_part 93 = .ok (.if_icmp .ge 49, 3) := dk_162 0 49 (dk_at dksX6_part_4 5 rfl rfl)
theorem dX6_part_96 : decode cX6_part 96 = .ok (.aload_n 0, 1) := dk_42 (dk_at dksX6_part_4 8 rfl rfl)
theorem dX6_part_97 : decode cX6_part 97 = .ok (.getfield 27, 3) := dk_180 0 27 (dk_at dksX6_part_4 9 rfl rfl)
theorem dX6_part_100 : decode cX6_part 100 = .ok (.iload_n 3, 1) := dk_29 (dk_at dksX6_part_4 12 rfl rfl)
theorem dX6_part_101 : decode cX6_part 101 = .ok (.invokeinterface 50 2, 5) := by decide +kernel
theorem dX6_part_106 : decode cX6_part 106 = .ok (.checkcast 89, 3) := dk_192 0 89 (dk_at dksX6_part_4 18 rfl rfl)
theorem dX6_part_109 : decode cX6_part 109 = .ok (.getfield 91, 3) := dk_180 0 91 (dk_at dksX6_part_4 21 rfl rfl)
theorem dX6_part_112 : decode cX6_part 112 = .ok (.ifnull 24, 3) := dk_198 0 24 (dk_at dksX6_part_5 0 rfl rfl)
theorem dX6_part_115 : decode cX6_part 115 = .ok (.aload_n 0, 1) := dk_42 (dk_at dksX6_part_5 3 rfl rfl)
theorem dX6_part_116 : decode cX6_part 116 = .ok (.getfield 27, 3) := dk_180 0 27 (dk_at dksX6_part_5 4 rfl rfl)
theorem dX6_part_119 : decode cX6_part 119 = .ok (.iload_n 3, 1) := dk_29 (dk_at dksX6_part_5 7 rfl rfl)
theorem dX6_part_120 : decode cX6_part 120 = .ok (.invokeinterface 50 2, 5) := by decide +kernel
theorem dX6_part_125 : decode cX6_part 125 = .ok (.checkcast 89, 3) := dk_192 0 89 (dk_at dksX6_part_5 13 rfl rfl)
theorem dX6_part_128 : decode cX6_part 128 = .ok (.getfield 91, 3) := dk_180 0 91 (dk_at dksX6_part_5 16 rfl rfl)
theorem dX6_part_131 : decode cX6_part 131 = .ok (.iload_n 1, 1) := dk_27 (dk_at dksX6_part_5 19 rfl rfl)
theorem dX6_part_132 : decode cX6_part 132 = .ok (.aload_n 2, 1) := dk_44 (dk_at dksX6_part_5 20 rfl rfl)
theorem dX6_part_133 : decode cX6_part 133 = .ok (.invokevirtual 81, 3) := dk_182 0 81 (dk_at dksX6_part_5 21 rfl rfl)
theorem dX6_part_136 : decode cX6_part 136 = .ok (.iinc 3 1, 3) := dk_132 3 1 (dk_at dksX6_part_6 0 rfl rfl)
theorem dX6_part_139 : decode cX6_part 139 = .ok (.goto (-56), 3) := dk_167 255 200 (dk_at dksX6_part_6 3 rfl rfl)
theorem dX6_part_142 : decode cX6_part 142 = .ok (.return_, 1) := dk_177 (dk_at dksX6_part_6 6 rfl rfl)
abbrev cX6_countNodes : ByteArray := prog_28_method_5_code
def yX6_countNodes : MethodName := ⟨RX6, "countNodes", "()I"⟩
def dkwX6_countNodes_2 : List UInt8 := [132, 1, 1, 167, 255, 215, 42, 180, 0, 73, 172]
abbrev dktX6_countNodes_2 : List UInt8 := dkwX6_countNodes_2 ++ []
def dkwX6_countNodes_1 : List UInt8 := [89, 180, 0, 73, 42, 180, 0, 24, 27, 185, 0, 50, 2, 0, 192, 0, 76, 180, 0, 78, 96, 181, 0, 73]
abbrev dktX6_countNodes_1 : List UInt8 := dkwX6_countNodes_1 ++ dktX6_countNodes_2
def dkwX6_countNodes_0 : List UInt8 := [42, 42, 180, 0, 70, 181, 0, 73, 3, 60, 27, 42, 180, 0, 24, 185, 0, 44, 1, 0, 162, 0, 34, 42]
abbrev dktX6_countNodes_0 : List UInt8 := dkwX6_countNodes_0 ++ dktX6_countNodes_1
theorem dksX6_countNodes_0 : cX6_countNodes.data.toList.drop 0 = dktX6_countNodes_0 := by decide +kernel
theorem dksX6_countNodes_1 : cX6_countNodes.data.toList.drop 24 = dktX6_countNodes_1 := dk_seg dksX6_countNodes_0 24 rfl rfl
theorem dksX6_countNodes_2 : cX6_countNodes.data.toList.drop 48 = dktX6_countNodes_2 := dk_seg dksX6_countNodes_1 24 rfl rfl
theorem dX6_countNodes_0 : decode cX6_countNodes 0 = .ok (.aload_n 0, 1) := dk_42 (dk_at dksX6_countNodes_0 0 rfl rfl)
theorem dX6_countNodes_1 : decode cX6_countNodes 1 = .ok (.aload_n 0, 1) := dk_42 (dk_at dksX6_countNodes_0 1 rfl rfl)
theorem dX6_countNodes_2 : decode cX6_countNodes 2 = .ok (.getfield 70, 3) := dk_180 0 70 (dk_at dksX6_countNodes_0 2 rfl rfl)
theorem dX6_countNodes_5 : decode cX6_countNodes 5 = .ok (.putfield 73, 3) := dk_181 0 73 (dk_at dksX6_countNodes_0 5 rfl rfl)
theorem dX6_countNodes_8 : decode cX6_countNodes 8 = .ok (.iconst 0, 1) := dk_3 (dk_at dksX6_countNodes_0 8 rfl rfl)
theorem dX6_countNodes_9 : decode cX6_countNodes 9 = .ok (.istore_n 1, 1) := dk_60 (dk_at dksX6_countNodes_0 9 rfl rfl)
theorem dX6_countNodes_10 : decode cX6_countNodes 10 = .ok (.iload_n 1, 1) := dk_27 (dk_at dksX6_countNodes_0 10 rfl rfl)
theorem dX6_countNodes_11 : decode cX6_countNodes 11 = .ok (.aload_n 0, 1) := dk_42 (dk_at dksX6_countNodes_0 11 rfl rfl)
theorem dX6_countNodes_12 : decode cX6_countNodes 12 = .ok (.getfield 24, 3) := dk_180 0 24 (dk_at dksX6_countNodes_0 12 rfl rfl)
theorem dX6_countNodes_15 : decode cX6_countNodes 15 = .ok (.invokeinterface 44 1, 5) := by decide +kernel
theorem dX6_countNodes_20 : decode cX6_countNodes 20 = .ok (.if_icmp .ge 34, 3) := dk_162 0 34 (dk_at dksX6_countNodes_0 20 rfl rfl)
theorem dX6_countNodes_23 : decode cX6_countNodes 23 = .ok (.aload_n 0, 1) := dk_42 (dk_at dksX6_countNodes_0 23 rfl rfl)
theorem dX6_countNodes_24 : decode cX6_countNodes 24 = .ok (.dup, 1) := dk_89 (dk_at dksX6_countNodes_1 0 rfl rfl)
theorem dX6_countNodes_25 : decode cX6_countNodes 25 = .ok (.getfield 73, 3) := dk_180 0 73 (dk_at dksX6_countNodes_1 1 rfl rfl)
theorem dX6_countNodes_28 : decode cX6_countNodes 28 = .ok (.aload_n 0, 1) := dk_42 (dk_at dksX6_countNodes_1 4 rfl rfl)
theorem dX6_countNodes_29 : decode cX6_countNodes 29 = .ok (.getfield 24, 3) := dk_180 0 24 (dk_at dksX6_countNodes_1 5 rfl rfl)
theorem dX6_countNodes_32 : decode cX6_countNodes 32 = .ok (.iload_n 1, 1) := dk_27 (dk_at dksX6_countNodes_1 8 rfl rfl)
theorem dX6_countNodes_33 : decode cX6_countNodes 33 = .ok (.invokeinterface 50 2, 5) := by decide +kernel
theorem dX6_countNodes_38 : decode cX6_countNodes 38 = .ok (.checkcast 76, 3) := dk_192 0 76 (dk_at dksX6_countNodes_1 14 rfl rfl)
theorem dX6_countNodes_41 : decode cX6_countNodes 41 = .ok (.getfield 78, 3) := dk_180 0 78 (dk_at dksX6_countNodes_1 17 rfl rfl)
theorem dX6_countNodes_44 : decode cX6_countNodes 44 = .ok (.iadd, 1) := dk_96 (dk_at dksX6_countNodes_1 20 rfl rfl)
theorem dX6_countNodes_45 : decode cX6_countNodes 45 = .ok (.putfield 73, 3) := dk_181 0 73 (dk_at dksX6_countNodes_1 21 rfl rfl)
theorem dX6_countNodes_48 : decode cX6_countNodes 48 = .ok (.iinc 1 1, 3) := dk_132 1 1 (dk_at dksX6_countNodes_2 0 rfl rfl)
theorem dX6_countNodes_51 : decode cX6_countNodes 51 = .ok (.goto (-41), 3) := dk_167 255 215 (dk_at dksX6_countNodes_2 3 rfl rfl)
theorem dX6_countNodes_54 : decode cX6_countNodes 54 = .ok (.aload_n 0, 1) := dk_42 (dk_at dksX6_countNodes_2 6 rfl rfl)
theorem dX6_countNodes_55 : decode cX6_countNodes 55 = .ok (.getfield 73, 3) := dk_180 0 73 (dk_at dksX6_countNodes_2 7 rfl rfl)
theorem dX6_countNodes_58 : decode cX6_countNodes 58 = .ok (.ireturn, 1) := dk_172 (dk_at dksX6_countNodes_2 10 rfl rfl)
abbrev cX6_answerAll : ByteArray := prog_28_method_11_code
def yX6_answerAll : MethodName := ⟨RX6, "answerAll", "(LCoverHouse$Full;)V"⟩
def dkwX6_answerAll_6 : List UInt8 := [180, 0, 145, 28, 21, 4, 4, 96, 145, 84, 132, 4, 1, 167, 255, 147, 132, 2, 1, 167, 255, 117, 177]
abbrev dktX6_answerAll_6 : List UInt8 := dkwX6_answerAll_6 ++ []
def dkwX6_answerAll_5 : List UInt8 := [62, 42, 180, 0, 141, 28, 25, 5, 180, 0, 156, 4, 160, 0, 7, 3, 167, 0, 4, 4, 145, 84, 42]
abbrev dktX6_answerAll_5 : List UInt8 := dkwX6_answerAll_5 ++ dktX6_answerAll_6
def dkwX6_answerAll_4 : List UInt8 := [182, 0, 127, 154, 0, 6, 167, 0, 51, 29, 25, 5, 180, 0, 156, 154, 0, 7, 4, 167, 0, 4, 3, 128]
abbrev dktX6_answerAll_4 : List UInt8 := dkwX6_answerAll_4 ++ dktX6_answerAll_5
def dkwX6_answerAll_3 : List UInt8 := [192, 0, 76, 58, 5, 25, 5, 180, 0, 156, 5, 160, 0, 7, 29, 153, 0, 66, 25, 5, 180, 0, 85, 43]
abbrev dktX6_answerAll_3 : List UInt8 := dkwX6_answerAll_3 ++ dktX6_answerAll_4
def dkwX6_answerAll_2 : List UInt8 := [42, 180, 0, 24, 185, 0, 44, 1, 0, 162, 0, 101, 42, 180, 0, 24, 21, 4, 185, 0, 50, 2, 0]
abbrev dktX6_answerAll_2 : List UInt8 := dkwX6_answerAll_2 ++ dktX6_answerAll_3
def dkwX6_answerAll_1 : List UInt8 := [180, 0, 109, 162, 0, 137, 42, 28, 43, 182, 0, 148, 42, 43, 182, 0, 152, 3, 62, 3, 54, 4, 21, 4]
abbrev dktX6_answerAll_1 : List UInt8 := dkwX6_answerAll_1 ++ dktX6_answerAll_2
def dkwX6_answerAll_0 : List UInt8 := [42, 42, 180, 0, 109, 188, 8, 181, 0, 141, 42, 42, 180, 0, 109, 188, 8, 181, 0, 145, 3, 61, 28, 42]
abbrev dktX6_answerAll_0 : List UInt8 := dkwX6_answerAll_0 ++ dktX6_answerAll_1
theorem dksX6_answerAll_0 : cX6_answerAll.data.toList.drop 0 = dktX6_answerAll_0 := by decide +kernel
theorem dksX6_answerAll_1 : cX6_answerAll.data.toList.drop 24 = dktX6_answerAll_1 := dk_seg dksX6_answerAll_0 24 rfl rfl
theorem dksX6_answerAll_2 : cX6_answerAll.data.toList.drop 48 = dktX6_answerAll_2 := dk_seg dksX6_answerAll_1 24 rfl rfl
theorem dksX6_answerAll_3 : cX6_answerAll.data.toList.drop 71 = dktX6_answerAll_3 := dk_seg dksX6_answerAll_2 23 rfl rfl
theorem dksX6_answerAll_4 : cX6_answerAll.data.toList.drop 95 = dktX6_answerAll_4 := dk_seg dksX6_answerAll_3 24 rfl rfl
theorem dksX6_answerAll_5 : cX6_answerAll.data.toList.drop 119 = dktX6_answerAll_5 := dk_seg dksX6_answerAll_4 24 rfl rfl
theorem dksX6_answerAll_6 : cX6_answerAll.data.toList.drop 142 = dktX6_answerAll_6 := dk_seg dksX6_answerAll_5 23 rfl rfl
theorem dX6_answerAll_0 : decode cX6_answerAll 0 = .ok (.aload_n 0, 1) := dk_42 (dk_at dksX6_answerAll_0 0 rfl rfl)
theorem dX6_answerAll_1 : decode cX6_answerAll 1 = .ok (.aload_n 0, 1) := dk_42 (dk_at dksX6_answerAll_0 1 rfl rfl)
theorem dX6_answerAll_2 : decode cX6_answerAll 2 = .ok (.getfield 109, 3) := dk_180 0 109 (dk_at dksX6_answerAll_0 2 rfl rfl)
theorem dX6_answerAll_5 : decode cX6_answerAll 5 = .ok (.newarray .byte, 2) := dk_188_8 (dk_at dksX6_answerAll_0 5 rfl rfl)
theorem dX6_answerAll_7 : decode cX6_answerAll 7 = .ok (.putfield 141, 3) := dk_181 0 141 (dk_at dksX6_answerAll_0 7 rfl rfl)
theorem dX6_answerAll_10 : decode cX6_answerAll 10 = .ok (.aload_n 0, 1) := dk_42 (dk_at dksX6_answerAll_0 10 rfl rfl)
theorem dX6_answerAll_11 : decode cX6_answerAll 11 = .ok (.aload_n 0, 1) := dk_42 (dk_at dksX6_answerAll_0 11 rfl rfl)
theorem dX6_answerAll_12 : decode cX6_answerAll 12 = .ok (.getfield 109, 3) := dk_180 0 109 (dk_at dksX6_answerAll_0 12 rfl rfl)
theorem dX6_answerAll_15 : decode cX6_answerAll 15 = .ok (.newarray .byte, 2) := dk_188_8 (dk_at dksX6_answerAll_0 15 rfl rfl)
theorem dX6_answerAll_17 : decode cX6_answerAll 17 = .ok (.putfield 145, 3) := dk_181 0 145 (dk_at dksX6_answerAll_0 17 rfl rfl)
theorem dX6_answerAll_20 : decode cX6_answerAll 20 = .ok (.iconst 0, 1) := dk_3 (dk_at dksX6_answerAll_0 20 rfl rfl)
theorem dX6_answerAll_21 : decode cX6_answerAll 21 = .ok (.istore_n 2, 1) := dk_61 (dk_at dksX6_answerAll_0 21 rfl rfl)
theorem dX6_answerAll_22 : decode cX6_answerAll 22 = .ok (.iload_n 2, 1) := dk_28 (dk_at dksX6_answerAll_0 22 rfl rfl)
theorem dX6_answerAll_23 : decode cX6_answerAll 23 = .ok (.aload_n 0, 1) := dk_42 (dk_at dksX6_answerAll_0 23 rfl rfl)
theorem dX6_answerAll_24 : decode cX6_answerAll 24 = .ok (.getfield 109, 3) := dk_180 0 109 (dk_at dksX6_answerAll_1 0 rfl rfl)
theorem dX6_answerAll_27 : decode cX6_answerAll 27 = .ok (.if_icmp .ge 137, 3) := dk_162 0 137 (dk_at dksX6_answerAll_1 3 rfl rfl)
theorem dX6_answerAll_30 : decode cX6_answerAll 30 = .ok (.aload_n 0, 1) := dk_42 (dk_at dksX6_answerAll_1 6 rfl rfl)
theorem dX6_answerAll_31 : decode cX6_answerAll 31 = .ok (.iload_n 2, 1) := dk_28 (dk_at dksX6_answerAll_1 7 rfl rfl)
theorem dX6_answerAll_32 : decode cX6_answerAll 32 = .ok (.aload_n 1, 1) := dk_43 (dk_at dksX6_answerAll_1 8 rfl rfl)
theorem dX6_answerAll_33 : decode cX6_answerAll 33 = .ok (.invokevirtual 148, 3) := dk_182 0 148 (dk_at dksX6_answerAll_1 9 rfl rfl)
theorem dX6_answerAll_36 : decode cX6_answerAll 36 = .ok (.aload_n 0, 1) := dk_42 (dk_at dksX6_answerAll_1 12 rfl rfl)
theorem dX6_answerAll_37 : decode cX6_answerAll 37 = .ok (.aload_n 1, 1) := dk_43 (dk_at dksX6_answerAll_1 13 rfl rfl)
theorem dX6_answerAll_38 : decode cX6_answerAll 38 = .ok (.invokevirtual 152, 3) := dk_182 0 152 (dk_at dksX6_answerAll_1 14 rfl rfl)
theorem dX6_answerAll_41 : decode cX6_answerAll 41 = .ok (.iconst 0, 1) := dk_3 (dk_at dksX6_answerAll_1 17 rfl rfl)
theorem dX6_answerAll_42 : decode cX6_answerAll 42 = .ok (.istore_n 3, 1) := dk_62 (dk_at dksX6_answerAll_1 18 rfl rfl)
theorem dX6_answerAll_43 : decode cX6_answerAll 43 = .ok (.iconst 0, 1) := dk_3 (dk_at dksX6_answerAll_1 19 rfl rfl)
theorem dX6_answerAll_44 : decode cX6_answerAll 44 = .ok (.istore 4, 2) := dk_54 4 (dk_at dksX6_answerAll_1 20 rfl rfl)
theorem dX6_answerAll_46 : decode cX6_answerAll 46 = .ok (.iload 4, 2) := dk_21 4 (dk_at dksX6_answerAll_1 22 rfl rfl)
theorem dX6_answerAll_48 : decode cX6_answerAll 48 = .ok (.aload_n 0, 1) := dk_42 (dk_at dksX6_answerAll_2 0 rfl rfl)
theorem dX6_answerAll_49 : decode cX6_answerAll 49 = .ok (.getfield 24, 3) := dk_180 0 24 (dk_at dksX6_answerAll_2 1 rfl rfl)
theorem dX6_answerAll_52 : decode cX6_answerAll 52 = .ok (.invokeinterface 44 1, 5) := by decide +kernel
theorem dX6_answerAll_57 : decode cX6_answerAll 57 = .ok (.if_icmp .ge 101, 3) := dk_162 0 101 (dk_at dksX6_answerAll_2 9 rfl rfl)
theorem dX6_answerAll_60 : decode cX6_answerAll 60 = .ok (.aload_n 0, 1) := dk_42 (dk_at dksX6_answerAll_2 12 rfl rfl)
theorem dX6_answerAll_61 : decode cX6_answerAll 61 = .ok (.getfield 24, 3) := dk_180 0 24 (dk_at dksX6_answerAll_2 13 rfl rfl)
theorem dX6_answerAll_64 : decode cX6_answerAll 64 = .ok (.iload 4, 2) := dk_21 4 (dk_at dksX6_answerAll_2 16 rfl rfl)
theorem dX6_answerAll_66 : decode cX6_answerAll 66 = .ok (.invokeinterface 50 2, 5) := by decide +kernel
theorem dX6_answerAll_71 : decode cX6_answerAll 71 = .ok (.checkcast 76, 3) := dk_192 0 76 (dk_at dksX6_answerAll_3 0 rfl rfl)
theorem dX6_answerAll_74 : decode cX6_answerAll 74 = .ok (.astore 5, 2) := dk_58 5 (dk_at dksX6_answerAll_3 3 rfl rfl)
theorem dX6_answerAll_76 : decode cX6_answerAll 76 = .ok (.aload 5, 2) := dk_25 5 (dk_at dksX6_answerAll_3 5 rfl rfl)
theorem dX6_answerAll_78 : decode cX6_answerAll 78 = .ok (.getfield 156, 3) := dk_180 0 156 (dk_at dksX6_answerAll_3 7 rfl rfl)
theorem dX6_answerAll_81 : decode cX6_answerAll 81 = .ok (.iconst 2, 1) := dk_5 (dk_at dksX6_answerAll_3 10 rfl rfl)
theorem dX6_answerAll_82 : decode cX6_answerAll 82 = .ok (.if_icmp .ne 7, 3) := dk_160 0 7 (dk_at dksX6_answerAll_3 11 rfl rfl)
theorem dX6_answerAll_85 : decode cX6_answerAll 85 = .ok (.iload_n 3, 1) := dk_29 (dk_at dksX6_answerAll_3 14 rfl rfl)
theorem dX6_answerAll_86 : decode cX6_answerAll 86 = .ok (.ifCond .eq 66, 3) := dk_153 0 66 (dk_at dksX6_answerAll_3 15 rfl rfl)
theorem dX6_answerAll_89 : decode cX6_answerAll 89 = .ok (.aload 5, 2) := dk_25 5 (dk_at dksX6_answerAll_3 18 rfl rfl)
theorem dX6_answerAll_91 : decode cX6_answerAll 91 = .ok (.getfield 85, 3) := dk_180 0 85 (dk_at dksX6_answerAll_3 20 rfl rfl)
theorem dX6_answerAll_94 : decode cX6_answerAll 94 = .ok (.aload_n 1, 1) := dk_43 (dk_at dksX6_answerAll_3 23 rfl rfl)
theorem dX6_answerAll_95 : decode cX6_answerAll 95 = .ok (.invokevirtual 127, 3) := dk_182 0 127 (dk_at dksX6_answerAll_4 0 rfl rfl)
theorem dX6_answerAll_98 : decode cX6_answerAll 98 = .ok (.ifCond .ne 6, 3) := dk_154 0 6 (dk_at dksX6_answerAll_4 3 rfl rfl)
theorem dX6_answerAll_101 : decode cX6_answerAll 101 = .ok (.goto 51, 3) := dk_167 0 51 (dk_at dksX6_answerAll_4 6 rfl rfl)
theorem dX6_answerAll_104 : decode cX6_answerAll 104 = .ok (.iload_n 3, 1) := dk_29 (dk_at dksX6_answerAll_4 9 rfl rfl)
theorem dX6_answerAll_105 : decode cX6_answerAll 105 = .ok (.aload 5, 2) := dk_25 5 (dk_at dksX6_answerAll_4 10 rfl rfl)
theorem dX6_answerAll_107 : decode cX6_answerAll 107 = .ok (.getfield 156, 3) := dk_180 0 156 (dk_at dksX6_answerAll_4 12 rfl rfl)
theorem dX6_answerAll_110 : decode cX6_answerAll 110 = .ok (.ifCond .ne 7, 3) := dk_154 0 7 (dk_at dksX6_answerAll_4 15 rfl rfl)
theorem dX6_answerAll_113 : decode cX6_answerAll 113 = .ok (.iconst 1, 1) := dk_4 (dk_at dksX6_answerAll_4 18 rfl rfl)
theorem dX6_answerAll_114 : decode cX6_answerAll 114 = .ok (.goto 4, 3) := dk_167 0 4 (dk_at dksX6_answerAll_4 19 rfl rfl)
theorem dX6_answerAll_117 : decode cX6_answerAll 117 = .ok (.iconst 0, 1) := dk_3 (dk_at dksX6_answerAll_4 22 rfl rfl)
theorem dX6_answerAll_118 : decode cX6_answerAll 118 = .ok (.ior, 1) := dk_128 (dk_at dksX6_answerAll_4 23 rfl rfl)
theorem dX6_answerAll_119 : decode cX6_answerAll 119 = .ok (.istore_n 3, 1) := dk_62 (dk_at dksX6_answerAll_5 0 rfl rfl)
theorem dX6_answerAll_120 : decode cX6_answerAll 120 = .ok (.aload_n 0, 1) := dk_42 (dk_at dksX6_answerAll_5 1 rfl rfl)
theorem dX6_answerAll_121 : decode cX6_answerAll 121 = .ok (.getfield 141, 3) := dk_180 0 141 (dk_at dksX6_answerAll_5 2 rfl rfl)
theorem dX6_answerAll_124 : decode cX6_answerAll 124 = .ok (.iload_n 2, 1) := dk_28 (dk_at dksX6_answerAll_5 5 rfl rfl)
theorem dX6_answerAll_125 : decode cX6_answerAll 125 = .ok (.aload 5, 2) := dk_25 5 (dk_at dksX6_answerAll_5 6 rfl rfl)
theorem dX6_answerAll_127 : decode cX6_answerAll 127 = .ok (.getfield 156, 3) := dk_180 0 156 (dk_at dksX6_answerAll_5 8 rfl rfl)
theorem dX6_answerAll_130 : decode cX6_answerAll 130 = .ok (.iconst 1, 1) := dk_4 (dk_at dksX6_answerAll_5 11 rfl rfl)
theorem dX6_answerAll_131 : decode cX6_answerAll 131 = .ok (.if_icmp .ne 7, 3) := dk_160 0 7 (dk_at dksX6_answerAll_5 12 rfl rfl)
theorem dX6_answerAll_134 : decode cX6_answerAll 134 = .ok (.iconst 0, 1) := dk_3 (dk_at dksX6_answerAll_5 15 rfl rfl)
theorem dX6_answerAll_135 : decode cX6_answerAll 135 = .ok (.goto 4, 3) := dk_167 0 4 (dk_at dksX6_answerAll_5 16 rfl rfl)
theorem dX6_answerAll_138 : decode cX6_answerAll 138 = .ok (.iconst 1, 1) := dk_4 (dk_at dksX6_answerAll_5 19 rfl rfl)
theorem dX6_answerAll_139 : decode cX6_answerAll 139 = .ok (.i2b, 1) := dk_145 (dk_at dksX6_answerAll_5 20 rfl rfl)
theorem dX6_answerAll_140 : decode cX6_answerAll 140 = .ok (.bastore, 1) := dk_84 (dk_at dksX6_answerAll_5 21 rfl rfl)
theorem dX6_answerAll_141 : decode cX6_answerAll 141 = .ok (.aload_n 0, 1) := dk_42 (dk_at dksX6_answerAll_5 22 rfl rfl)
theorem dX6_answerAll_142 : decode cX6_answerAll 142 = .ok (.getfield 145, 3) := dk_180 0 145 (dk_at dksX6_answerAll_6 0 rfl rfl)
theorem dX6_answerAll_145 : decode cX6_answerAll 145 = .ok (.iload_n 2, 1) := dk_28 (dk_at dksX6_answerAll_6 3 rfl rfl)
theorem dX6_answerAll_146 : decode cX6_answerAll 146 = .ok (.iload 4, 2) := dk_21 4 (dk_at dksX6_answerAll_6 4 rfl rfl)
theorem dX6_answerAll_148 : decode cX6_answerAll 148 = .ok (.iconst 1, 1) := dk_4 (dk_at dksX6_answerAll_6 6 rfl rfl)
theorem dX6_answerAll_149 : decode cX6_answerAll 149 = .ok (.iadd, 1) := dk_96 (dk_at dksX6_answerAll_6 7 rfl rfl)
theorem dX6_answerAll_150 : decode cX6_answerAll 150 = .ok (.i2b, 1) := dk_145 (dk_at dksX6_answerAll_6 8 rfl rfl)
theorem dX6_answerAll_151 : decode cX6_answerAll 151 = .ok (.bastore, 1) := dk_84 (dk_at dksX6_answerAll_6 9 rfl rfl)
theorem dX6_answerAll_152 : decode cX6_answerAll 152 = .ok (.iinc 4 1, 3) := dk_132 4 1 (dk_at dksX6_answerAll_6 10 rfl rfl)
theorem dX6_answerAll_155 : decode cX6_answerAll 155 = .ok (.goto (-109), 3) := dk_167 255 147 (dk_at dksX6_answerAll_6 13 rfl rfl)
theorem dX6_answerAll_158 : decode cX6_answerAll 158 = .ok (.iinc 2 1, 3) := dk_132 2 1 (dk_at dksX6_answerAll_6 16 rfl rfl)
theorem dX6_answerAll_161 : decode cX6_answerAll 161 = .ok (.goto (-139), 3) := dk_167 255 117 (dk_at dksX6_answerAll_6 19 rfl rfl)
theorem dX6_answerAll_164 : decode cX6_answerAll 164 = .ok (.return_, 1) := dk_177 (dk_at dksX6_answerAll_6 22 rfl rfl)
abbrev cX6_way : ByteArray := prog_28_method_9_code
def yX6_way : MethodName := ⟨RX6, "way", "(ILCoverHouse$Full;)V"⟩
def dkwX6_way_2 : List UInt8 := [25, 5, 180, 0, 99, 112, 46, 79, 29, 25, 5, 180, 0, 99, 108, 62, 132, 4, 255, 167, 255, 204, 177]
abbrev dktX6_way_2 : List UInt8 := dkwX6_way_2 ++ []
def dkwX6_way_1 : List UInt8 := [21, 4, 185, 0, 50, 2, 0, 192, 0, 92, 58, 5, 44, 180, 0, 131, 21, 4, 25, 5, 180, 0, 134, 29]
abbrev dktX6_way_1 : List UInt8 := dkwX6_way_1 ++ dktX6_way_2
def dkwX6_way_0 : List UInt8 := [27, 62, 42, 180, 0, 12, 185, 0, 44, 1, 0, 4, 100, 54, 4, 21, 4, 155, 0, 53, 42, 180, 0, 41]
abbrev dktX6_way_0 : List UInt8 := dkwX6_way_0 ++ dktX6_way_1
theorem dksX6_way_0 : cX6_way.data.toList.drop 0 = dktX6_way_0 := by decide +kernel
theorem dksX6_way_1 : cX6_way.data.toList.drop 24 = dktX6_way_1 := dk_seg dksX6_way_0 24 rfl rfl
theorem dksX6_way_2 : cX6_way.data.toList.drop 48 = dktX6_way_2 := dk_seg dksX6_way_1 24 rfl rfl
theorem dX6_way_0 : decode cX6_way 0 = .ok (.iload_n 1, 1) := dk_27 (dk_at dksX6_way_0 0 rfl rfl)
theorem dX6_way_1 : decode cX6_way 1 = .ok (.istore_n 3, 1) := dk_62 (dk_at dksX6_way_0 1 rfl rfl)
theorem dX6_way_2 : decode cX6_way 2 = .ok (.aload_n 0, 1) := dk_42 (dk_at dksX6_way_0 2 rfl rfl)
theorem dX6_way_3 : decode cX6_way 3 = .ok (.getfield 12, 3) := dk_180 0 12 (dk_at dksX6_way_0 3 rfl rfl)
theorem dX6_way_6 : decode cX6_way 6 = .ok (.invokeinterface 44 1, 5) := by decide +kernel
theorem dX6_way_11 : decode cX6_way 11 = .ok (.iconst 1, 1) := dk_4 (dk_at dksX6_way_0 11 rfl rfl)
theorem dX6_way_12 : decode cX6_way 12 = .ok (.isub, 1) := dk_100 (dk_at dksX6_way_0 12 rfl rfl)
theorem dX6_way_13 : decode cX6_way 13 = .ok (.istore 4, 2) := dk_54 4 (dk_at dksX6_way_0 13 rfl rfl)
theorem dX6_way_15 : decode cX6_way 15 = .ok (.iload 4, 2) := dk_21 4 (dk_at dksX6_way_0 15 rfl rfl)
theorem dX6_way_17 : decode cX6_way 17 = .ok (.ifCond .lt 53, 3) := dk_155 0 53 (dk_at dksX6_way_0 17 rfl rfl)
theorem dX6_way_20 : decode cX6_way 20 = .ok (.aload_n 0, 1) := dk_42 (dk_at dksX6_way_0 20 rfl rfl)
theorem dX6_way_21 : decode cX6_way 21 = .ok (.getfield 41, 3) := dk_180 0 41 (dk_at dksX6_way_0 21 rfl rfl)
theorem dX6_way_24 : decode cX6_way 24 = .ok (.iload 4, 2) := dk_21 4 (dk_at dksX6_way_1 0 rfl rfl)
theorem dX6_way_26 : decode cX6_way 26 = .ok (.invokeinterface 50 2, 5) := by decide +kernel
theorem dX6_way_31 : decode cX6_way 31 = .ok (.checkcast 92, 3) := dk_192 0 92 (dk_at dksX6_way_1 7 rfl rfl)
theorem dX6_way_34 : decode cX6_way 34 = .ok (.astore 5, 2) := dk_58 5 (dk_at dksX6_way_1 10 rfl rfl)
theorem dX6_way_36 : decode cX6_way 36 = .ok (.aload_n 2, 1) := dk_44 (dk_at dksX6_way_1 12 rfl rfl)
theorem dX6_way_37 : decode cX6_way 37 = .ok (.getfield 131, 3) := dk_180 0 131 (dk_at dksX6_way_1 13 rfl rfl)
theorem dX6_way_40 : decode cX6_way 40 = .ok (.iload 4, 2) := dk_21 4 (dk_at dksX6_way_1 16 rfl rfl)
theorem dX6_way_42 : decode cX6_way 42 = .ok (.aload 5, 2) := dk_25 5 (dk_at dksX6_way_1 18 rfl rfl)
theorem dX6_way_44 : decode cX6_way 44 = .ok (.getfield 134, 3) := dk_180 0 134 (dk_at dksX6_way_1 20 rfl rfl)
theorem dX6_way_47 : decode cX6_way 47 = .ok (.iload_n 3, 1) := dk_29 (dk_at dksX6_way_1 23 rfl rfl)
theorem dX6_way_48 : decode cX6_way 48 = .ok (.aload 5, 2) := dk_25 5 (dk_at dksX6_way_2 0 rfl rfl)
theorem dX6_way_50 : decode cX6_way 50 = .ok (.getfield 99, 3) := dk_180 0 99 (dk_at dksX6_way_2 2 rfl rfl)
theorem dX6_way_53 : decode cX6_way 53 = .ok (.irem, 1) := dk_112 (dk_at dksX6_way_2 5 rfl rfl)
theorem dX6_way_54 : decode cX6_way 54 = .ok (.iaload, 1) := dk_46 (dk_at dksX6_way_2 6 rfl rfl)
theorem dX6_way_55 : decode cX6_way 55 = .ok (.iastore, 1) := dk_79 (dk_at dksX6_way_2 7 rfl rfl)
theorem dX6_way_56 : decode cX6_way 56 = .ok (.iload_n 3, 1) := dk_29 (dk_at dksX6_way_2 8 rfl rfl)
theorem dX6_way_57 : decode cX6_way 57 = .ok (.aload 5, 2) := dk_25 5 (dk_at dksX6_way_2 9 rfl rfl)
theorem dX6_way_59 : decode cX6_way 59 = .ok (.getfield 99, 3) := dk_180 0 99 (dk_at dksX6_way_2 11 rfl rfl)
theorem dX6_way_62 : decode cX6_way 62 = .ok (.idiv, 1) := dk_108 (dk_at dksX6_way_2 14 rfl rfl)
theorem dX6_way_63 : decode cX6_way 63 = .ok (.istore_n 3, 1) := dk_62 (dk_at dksX6_way_2 15 rfl rfl)
theorem dX6_way_64 : decode cX6_way 64 = .ok (.iinc 4 (-1), 3) := dk_132 4 255 (dk_at dksX6_way_2 16 rfl rfl)
theorem dX6_way_67 : decode cX6_way 67 = .ok (.goto (-52), 3) := dk_167 255 204 (dk_at dksX6_way_2 19 rfl rfl)
theorem dX6_way_70 : decode cX6_way 70 = .ok (.return_, 1) := dk_177 (dk_at dksX6_way_2 22 rfl rfl)
abbrev cX6_mean : ByteArray := prog_28_method_8_code
def yX6_mean : MethodName := ⟨RX6, "mean", "(LCoverHouse$Full;)V"⟩
def dkwX6_mean_1 : List UInt8 := [28, 185, 0, 50, 2, 0, 192, 0, 79, 43, 182, 0, 127, 84, 132, 2, 1, 167, 255, 217, 177]
abbrev dktX6_mean_1 : List UInt8 := dkwX6_mean_1 ++ []
def dkwX6_mean_0 : List UInt8 := [3, 61, 28, 42, 180, 0, 21, 185, 0, 44, 1, 0, 162, 0, 32, 43, 180, 0, 122, 28, 42, 180, 0, 21]
abbrev dktX6_mean_0 : List UInt8 := dkwX6_mean_0 ++ dktX6_mean_1
theorem dksX6_mean_0 : cX6_mean.data.toList.drop 0 = dktX6_mean_0 := by decide +kernel
theorem dksX6_mean_1 : cX6_mean.data.toList.drop 24 = dktX6_mean_1 := dk_seg dksX6_mean_0 24 rfl rfl
theorem dX6_mean_0 : decode cX6_mean 0 = .ok (.iconst 0, 1) := dk_3 (dk_at dksX6_mean_0 0 rfl rfl)
theorem dX6_mean_1 : decode cX6_mean 1 = .ok (.istore_n 2, 1) := dk_61 (dk_at dksX6_mean_0 1 rfl rfl)
theorem dX6_mean_2 : decode cX6_mean 2 = .ok (.iload_n 2, 1) := dk_28 (dk_at dksX6_mean_0 2 rfl rfl)
theorem dX6_mean_3 : decode cX6_mean 3 = .ok (.aload_n 0, 1) := dk_42 (dk_at dksX6_mean_0 3 rfl rfl)
theorem dX6_mean_4 : decode cX6_mean 4 = .ok (.getfield 21, 3) := dk_180 0 21 (dk_at dksX6_mean_0 4 rfl rfl)
theorem dX6_mean_7 : decode cX6_mean 7 = .ok (.invokeinterface 44 1, 5) := by decide +kernel
theorem dX6_mean_12 : decode cX6_mean 12 = .ok (.if_icmp .ge 32, 3) := dk_162 0 32 (dk_at dksX6_mean_0 12 rfl rfl)
theorem dX6_mean_15 : decode cX6_mean 15 = .ok (.aload_n 1, 1) := dk_43 (dk_at dksX6_mean_0 15 rfl rfl)
theorem dX6_mean_16 : decode cX6_mean 16 = .ok (.getfield 122, 3) := dk_180 0 122 (dk_at dksX6_mean_0 16 rfl rfl)
theorem dX6_mean_19 : decode cX6_mean 19 = .ok (.iload_n 2, 1) := dk_28 (dk_at dksX6_mean_0 19 rfl rfl)
theorem dX6_mean_20 : decode cX6_mean 20 = .ok (.aload_n 0, 1) := dk_42 (dk_at dksX6_mean_0 20 rfl rfl)
theorem dX6_mean_21 : decode cX6_mean 21 = .ok (.getfield 21, 3) := dk_180 0 21 (dk_at dksX6_mean_0 21 rfl rfl)
theorem dX6_mean_24 : decode cX6_mean 24 = .ok (.iload_n 2, 1) := dk_28 (dk_at dksX6_mean_1 0 rfl rfl)
theorem dX6_mean_25 : decode cX6_mean 25 = .ok (.invokeinterface 50 2, 5) := by decide +kernel
theorem dX6_mean_30 : decode cX6_mean 30 = .ok (.checkcast 79, 3) := dk_192 0 79 (dk_at dksX6_mean_1 6 rfl rfl)
theorem dX6_mean_33 : decode cX6_mean 33 = .ok (.aload_n 1, 1) := dk_43 (dk_at dksX6_mean_1 9 rfl rfl)
theorem dX6_mean_34 : decode cX6_mean 34 = .ok (.invokevirtual 127, 3) := dk_182 0 127 (dk_at dksX6_mean_1 10 rfl rfl)
theorem dX6_mean_37 : decode cX6_mean 37 = .ok (.bastore, 1) := dk_84 (dk_at dksX6_mean_1 13 rfl rfl)
theorem dX6_mean_38 : decode cX6_mean 38 = .ok (.iinc 2 1, 3) := dk_132 2 1 (dk_at dksX6_mean_1 14 rfl rfl)
theorem dX6_mean_41 : decode cX6_mean 41 = .ok (.goto (-39), 3) := dk_167 255 217 (dk_at dksX6_mean_1 17 rfl rfl)
theorem dX6_mean_44 : decode cX6_mean 44 = .ok (.return_, 1) := dk_177 (dk_at dksX6_mean_1 20 rfl rfl)
abbrev cX6_takeOver : ByteArray := prog_28_method_4_code
def yX6_takeOver : MethodName := ⟨RX6, "takeOver", "(LCoverHouse$Wording;)V"⟩
def dkwX6_takeOver_4 : List UInt8 := [132, 2, 1, 167, 255, 236, 42, 43, 180, 0, 70, 181, 0, 70, 177]
abbrev dktX6_takeOver_4 : List UInt8 := dkwX6_takeOver_4 ++ []
def dkwX6_takeOver_3 : List UInt8 := [181, 0, 34, 3, 61, 28, 6, 162, 0, 21, 42, 180, 0, 37, 28, 43, 180, 0, 37, 28, 46, 79]
abbrev dktX6_takeOver_3 : List UInt8 := dkwX6_takeOver_3 ++ dktX6_takeOver_4
def dkwX6_takeOver_2 : List UInt8 := [43, 180, 0, 27, 185, 0, 66, 2, 0, 87, 42, 43, 180, 0, 30, 181, 0, 30, 42, 43, 180, 0, 34]
abbrev dktX6_takeOver_2 : List UInt8 := dkwX6_takeOver_2 ++ dktX6_takeOver_3
def dkwX6_takeOver_1 : List UInt8 := [185, 0, 66, 2, 0, 87, 42, 180, 0, 21, 43, 180, 0, 21, 185, 0, 66, 2, 0, 87, 42, 180, 0, 27]
abbrev dktX6_takeOver_1 : List UInt8 := dkwX6_takeOver_1 ++ dktX6_takeOver_2
def dkwX6_takeOver_0 : List UInt8 := [42, 180, 0, 12, 43, 180, 0, 12, 185, 0, 66, 2, 0, 87, 42, 180, 0, 18, 43, 180, 0, 18]
abbrev dktX6_takeOver_0 : List UInt8 := dkwX6_takeOver_0 ++ dktX6_takeOver_1
theorem dksX6_takeOver_0 : cX6_takeOver.data.toList.drop 0 = dktX6_takeOver_0 := by decide +kernel
theorem dksX6_takeOver_1 : cX6_takeOver.data.toList.drop 22 = dktX6_takeOver_1 := dk_seg dksX6_takeOver_0 22 rfl rfl
theorem dksX6_takeOver_2 : cX6_takeOver.data.toList.drop 46 = dktX6_takeOver_2 := dk_seg dksX6_takeOver_1 24 rfl rfl
theorem dksX6_takeOver_3 : cX6_takeOver.data.toList.drop 69 = dktX6_takeOver_3 := dk_seg dksX6_takeOver_2 23 rfl rfl
theorem dksX6_takeOver_4 : cX6_takeOver.data.toList.drop 91 = dktX6_takeOver_4 := dk_seg dksX6_takeOver_3 22 rfl rfl
theorem dX6_takeOver_0 : decode cX6_takeOver 0 = .ok (.aload_n 0, 1) := dk_42 (dk_at dksX6_takeOver_0 0 rfl rfl)
theorem dX6_takeOver_1 : decode cX6_takeOver 1 = .ok (.getfield 12, 3) := dk_180 0 12 (dk_at dksX6_takeOver_0 1 rfl rfl)
theorem dX6_takeOver_4 : decode cX6_takeOver 4 = .ok (.aload_n 1, 1) := dk_43 (dk_at dksX6_takeOver_0 4 rfl rfl)
theorem dX6_takeOver_5 : decode cX6_takeOver 5 = .ok (.getfield 12, 3) := dk_180 0 12 (dk_at dksX6_takeOver_0 5 rfl rfl)
theorem dX6_takeOver_8 : decode cX6_takeOver 8 = .ok (.invokeinterface 66 2, 5) := by decide +kernel
theorem dX6_takeOver_13 : decode cX6_takeOver 13 = .ok (.pop, 1) := dk_87 (dk_at dksX6_takeOver_0 13 rfl rfl)
theorem dX6_takeOver_14 : decode cX6_takeOver 14 = .ok (.aload_n 0, 1) := dk_42 (dk_at dksX6_takeOver_0 14 rfl rfl)
theorem dX6_takeOver_15 : decode cX6_takeOver 15 = .ok (.getfield 18, 3) := dk_180 0 18 (dk_at dksX6_takeOver_0 15 rfl rfl)
theorem dX6_takeOver_18 : decode cX6_takeOver 18 = .ok (.aload_n 1, 1) := dk_43 (dk_at dksX6_takeOver_0 18 rfl rfl)
theorem dX6_takeOver_19 : decode cX6_takeOver 19 = .ok (.getfield 18, 3) := dk_180 0 18 (dk_at dksX6_takeOver_0 19 rfl rfl)
theorem dX6_takeOver_22 : decode cX6_takeOver 22 = .ok (.invokeinterface 66 2, 5) := by decide +kernel
theorem dX6_takeOver_27 : decode cX6_takeOver 27 = .ok (.pop, 1) := dk_87 (dk_at dksX6_takeOver_1 5 rfl rfl)
theorem dX6_takeOver_28 : decode cX6_takeOver 28 = .ok (.aload_n 0, 1) := dk_42 (dk_at dksX6_takeOver_1 6 rfl rfl)
theorem dX6_takeOver_29 : decode cX6_takeOver 29 = .ok (.getfield 21, 3) := dk_180 0 21 (dk_at dksX6_takeOver_1 7 rfl rfl)
theorem dX6_takeOver_32 : decode cX6_takeOver 32 = .ok (.aload_n 1, 1) := dk_43 (dk_at dksX6_takeOver_1 10 rfl rfl)
theorem dX6_takeOver_33 : decode cX6_takeOver 33 = .ok (.getfield 21, 3) := dk_180 0 21 (dk_at dksX6_takeOver_1 11 rfl rfl)
theorem dX6_takeOver_36 : decode cX6_takeOver 36 = .ok (.invokeinterface 66 2, 5) := by decide +kernel
theorem dX6_takeOver_41 : decode cX6_takeOver 41 = .ok (.pop, 1) := dk_87 (dk_at dksX6_takeOver_1 19 rfl rfl)
theorem dX6_takeOver_42 : decode cX6_takeOver 42 = .ok (.aload_n 0, 1) := dk_42 (dk_at dksX6_takeOver_1 20 rfl rfl)
theorem dX6_takeOver_43 : decode cX6_takeOver 43 = .ok (.getfield 27, 3) := dk_180 0 27 (dk_at dksX6_takeOver_1 21 rfl rfl)
theorem dX6_takeOver_46 : decode cX6_takeOver 46 = .ok (.aload_n 1, 1) := dk_43 (dk_at dksX6_takeOver_2 0 rfl rfl)
theorem dX6_takeOver_47 : decode cX6_takeOver 47 = .ok (.getfield 27, 3) := dk_180 0 27 (dk_at dksX6_takeOver_2 1 rfl rfl)
theorem dX6_takeOver_50 : decode cX6_takeOver 50 = .ok (.invokeinterface 66 2, 5) := by decide +kernel
theorem dX6_takeOver_55 : decode cX6_takeOver 55 = .ok (.pop, 1) := dk_87 (dk_at dksX6_takeOver_2 9 rfl rfl)
theorem dX6_takeOver_56 : decode cX6_takeOver 56 = .ok (.aload_n 0, 1) := dk_42 (dk_at dksX6_takeOver_2 10 rfl rfl)
theorem dX6_takeOver_57 : decode cX6_takeOver 57 = .ok (.aload_n 1, 1) := dk_43 (dk_at dksX6_takeOver_2 11 rfl rfl)
theorem dX6_takeOver_58 : decode cX6_takeOver 58 = .ok (.getfield 30, 3) := dk_180 0 30 (dk_at dksX6_takeOver_2 12 rfl rfl)
theorem dX6_takeOver_61 : decode cX6_takeOver 61 = .ok (.putfield 30, 3) := dk_181 0 30 (dk_at dksX6_takeOver_2 15 rfl rfl)
theorem dX6_takeOver_64 : decode cX6_takeOver 64 = .ok (.aload_n 0, 1) := dk_42 (dk_at dksX6_takeOver_2 18 rfl rfl)
theorem dX6_takeOver_65 : decode cX6_takeOver 65 = .ok (.aload_n 1, 1) := dk_43 (dk_at dksX6_takeOver_2 19 rfl rfl)
theorem dX6_takeOver_66 : decode cX6_takeOver 66 = .ok (.getfield 34, 3) := dk_180 0 34 (dk_at dksX6_takeOver_2 20 rfl rfl)
theorem dX6_takeOver_69 : decode cX6_takeOver 69 = .ok (.putfield 34, 3) := dk_181 0 34 (dk_at dksX6_takeOver_3 0 rfl rfl)
theorem dX6_takeOver_72 : decode cX6_takeOver 72 = .ok (.iconst 0, 1) := dk_3 (dk_at dksX6_takeOver_3 3 rfl rfl)
theorem dX6_takeOver_73 : decode cX6_takeOver 73 = .ok (.istore_n 2, 1) := dk_61 (dk_at dksX6_takeOver_3 4 rfl rfl)
theorem dX6_takeOver_74 : decode cX6_takeOver 74 = .ok (.iload_n 2, 1) := dk_28 (dk_at dksX6_takeOver_3 5 rfl rfl)
theorem dX6_takeOver_75 : decode cX6_takeOver 75 = .ok (.iconst 3, 1) := dk_6 (dk_at dksX6_takeOver_3 6 rfl rfl)
theorem dX6_takeOver_76 : decode cX6_takeOver 76 = .ok (.if_icmp .ge 21, 3) := dk_162 0 21 (dk_at dksX6_takeOver_3 7 rfl rfl)
theorem dX6_takeOver_79 : decode cX6_takeOver 79 = .ok (.aload_n 0, 1) := dk_42 (dk_at dksX6_takeOver_3 10 rfl rfl)
theorem dX6_takeOver_80 : decode cX6_takeOver 80 = .ok (.getfield 37, 3) := dk_180 0 37 (dk_at dksX6_takeOver_3 11 rfl rfl)
theorem dX6_takeOver_83 : decode cX6_takeOver 83 = .ok (.iload_n 2, 1) := dk_28 (dk_at dksX6_takeOver_3 14 rfl rfl)
theorem dX6_takeOver_84 : decode cX6_takeOver 84 = .ok (.aload_n 1, 1) := dk_43 (dk_at dksX6_takeOver_3 15 rfl rfl)
theorem dX6_takeOver_85 : decode cX6_takeOver 85 = .ok (.getfield 37, 3) := dk_180 0 37 (dk_at dksX6_takeOver_3 16 rfl rfl)
theorem dX6_takeOver_88 : decode cX6_takeOver 88 = .ok (.iload_n 2, 1) := dk_28 (dk_at dksX6_takeOver_3 19 rfl rfl)
theorem dX6_takeOver_89 : decode cX6_takeOver 89 = .ok (.iaload, 1) := dk_46 (dk_at dksX6_takeOver_3 20 rfl rfl)
theorem dX6_takeOver_90 : decode cX6_takeOver 90 = .ok (.iastore, 1) := dk_79 (dk_at dksX6_takeOver_3 21 rfl rfl)
theorem dX6_takeOver_91 : decode cX6_takeOver 91 = .ok (.iinc 2 1, 3) := dk_132 2 1 (dk_at dksX6_takeOver_4 0 rfl rfl)
theorem dX6_takeOver_94 : decode cX6_takeOver 94 = .ok (.goto (-20), 3) := dk_167 255 236 (dk_at dksX6_takeOver_4 3 rfl rfl)
theorem dX6_takeOver_97 : decode cX6_takeOver 97 = .ok (.aload_n 0, 1) := dk_42 (dk_at dksX6_takeOver_4 6 rfl rfl)
theorem dX6_takeOver_98 : decode cX6_takeOver 98 = .ok (.aload_n 1, 1) := dk_43 (dk_at dksX6_takeOver_4 7 rfl rfl)
theorem dX6_takeOver_99 : decode cX6_takeOver 99 = .ok (.getfield 70, 3) := dk_180 0 70 (dk_at dksX6_takeOver_4 8 rfl rfl)
theorem dX6_takeOver_102 : decode cX6_takeOver 102 = .ok (.putfield 70, 3) := dk_181 0 70 (dk_at dksX6_takeOver_4 11 rfl rfl)
theorem dX6_takeOver_105 : decode cX6_takeOver 105 = .ok (.return_, 1) := dk_177 (dk_at dksX6_takeOver_4 14 rfl rfl)
abbrev cX6_isComparable : ByteArray := prog_28_method_12_code
def yX6_isComparable : MethodName := ⟨RX6, "isComparable", "(LCoverHouse$Wording;)Z"⟩
def dkwX6_isComparable_3 : List UInt8 := [132, 2, 1, 167, 255, 206, 4, 172]
abbrev dktX6_isComparable_3 : List UInt8 := dkwX6_isComparable_3 ++ []
def dkwX6_isComparable_2 : List UInt8 := [192, 0, 54, 43, 180, 0, 12, 28, 185, 0, 50, 2, 0, 192, 0, 54, 182, 0, 159, 154, 0, 5, 3, 172]
abbrev dktX6_isComparable_2 : List UInt8 := dkwX6_isComparable_2 ++ dktX6_isComparable_3
def dkwX6_isComparable_1 : List UInt8 := [61, 28, 42, 180, 0, 12, 185, 0, 44, 1, 0, 162, 0, 43, 42, 180, 0, 12, 28, 185, 0, 50, 2, 0]
abbrev dktX6_isComparable_1 : List UInt8 := dkwX6_isComparable_1 ++ dktX6_isComparable_2
def dkwX6_isComparable_0 : List UInt8 := [42, 180, 0, 12, 185, 0, 44, 1, 0, 43, 180, 0, 12, 185, 0, 44, 1, 0, 159, 0, 5, 3, 172, 3]
abbrev dktX6_isComparable_0 : List UInt8 := dkwX6_isComparable_0 ++ dktX6_isComparable_1
theorem dksX6_isComparable_0 : cX6_isComparable.data.toList.drop 0 = dktX6_isComparable_0 := by decide +kernel
theorem dksX6_isComparable_1 : cX6_isComparable.data.toList.drop 24 = dktX6_isComparable_1 := dk_seg dksX6_isComparable_0 24 rfl rfl
theorem dksX6_isComparable_2 : cX6_isComparable.data.toList.drop 48 = dktX6_isComparable_2 := dk_seg dksX6_isComparable_1 24 rfl rfl
theorem dksX6_isComparable_3 : cX6_isComparable.data.toList.drop 72 = dktX6_isComparable_3 := dk_seg dksX6_isComparable_2 24 rfl rfl
theorem dX6_isComparable_0 : decode cX6_isComparable 0 = .ok (.aload_n 0, 1) := dk_42 (dk_at dksX6_isComparable_0 0 rfl rfl)
theorem dX6_isComparable_1 : decode cX6_isComparable 1 = .ok (.getfield 12, 3) := dk_180 0 12 (dk_at dksX6_isComparable_0 1 rfl rfl)
theorem dX6_isComparable_4 : decode cX6_isComparable 4 = .ok (.invokeinterface 44 1, 5) := by decide +kernel
theorem dX6_isComparable_9 : decode cX6_isComparable 9 = .ok (.aload_n 1, 1) := dk_43 (dk_at dksX6_isComparable_0 9 rfl rfl)
theorem dX6_isComparable_10 : decode cX6_isComparable 10 = .ok (.getfield 12, 3) := dk_180 0 12 (dk_at dksX6_isComparable_0 10 rfl rfl)
theorem dX6_isComparable_13 : decode cX6_isComparable 13 = .ok (.invokeinterface 44 1, 5) := by decide +kernel
theorem dX6_isComparable_18 : decode cX6_isComparable 18 = .ok (.if_icmp .eq 5, 3) := dk_159 0 5 (dk_at dksX6_isComparable_0 18 rfl rfl)
theorem dX6_isComparable_21 : decode cX6_isComparable 21 = .ok (.iconst 0, 1) := dk_3 (dk_at dksX6_isComparable_0 21 rfl rfl)
theorem dX6_isComparable_22 : decode cX6_isComparable 22 = .ok (.ireturn, 1) := dk_172 (dk_at dksX6_isComparable_0 22 rfl rfl)
theorem dX6_isComparable_23 : decode cX6_isComparable 23 = .ok (.iconst 0, 1) := dk_3 (dk_at dksX6_isComparable_0 23 rfl rfl)
theorem dX6_isComparable_24 : decode cX6_isComparable 24 = .ok (.istore_n 2, 1) := dk_61 (dk_at dksX6_isComparable_1 0 rfl rfl)
theorem dX6_isComparable_25 : decode cX6_isComparable 25 = .ok (.iload_n 2, 1) := dk_28 (dk_at dksX6_isComparable_1 1 rfl rfl)
theorem dX6_isComparable_26 : decode cX6_isComparable 26 = .ok (.aload_n 0, 1) := dk_42 (dk_at dksX6_isComparable_1 2 rfl rfl)
theorem dX6_isComparable_27 : decode cX6_isComparable 27 = .ok (.getfield 12, 3) := dk_180 0 12 (dk_at dksX6_isComparable_1 3 rfl rfl)
theorem dX6_isComparable_30 : decode cX6_isComparable 30 = .ok (.invokeinterface 44 1, 5) := by decide +kernel
theorem dX6_isComparable_35 : decode cX6_isComparable 35 = .ok (.if_icmp .ge 43, 3) := dk_162 0 43 (dk_at dksX6_isComparable_1 11 rfl rfl)
theorem dX6_isComparable_38 : decode cX6_isComparable 38 = .ok (.aload_n 0, 1) := dk_42 (dk_at dksX6_isComparable_1 14 rfl rfl)
theorem dX6_isComparable_39 : decode cX6_isComparable 39 = .ok (.getfield 12, 3) := dk_180 0 12 (dk_at dksX6_isComparable_1 15 rfl rfl)
theorem dX6_isComparable_42 : decode cX6_isComparable 42 = .ok (.iload_n 2, 1) := dk_28 (dk_at dksX6_isComparable_1 18 rfl rfl)
theorem dX6_isComparable_43 : decode cX6_isComparable 43 = .ok (.invokeinterface 50 2, 5) := by decide +kernel
theorem dX6_isComparable_48 : decode cX6_isComparable 48 = .ok (.checkcast 54, 3) := dk_192 0 54 (dk_at dksX6_isComparable_2 0 rfl rfl)
theorem dX6_isComparable_51 : decode cX6_isComparable 51 = .ok (.aload_n 1, 1) := dk_43 (dk_at dksX6_isComparable_2 3 rfl rfl)
theorem dX6_isComparable_52 : decode cX6_isComparable 52 = .ok (.getfield 12, 3) := dk_180 0 12 (dk_at dksX6_isComparable_2 4 rfl rfl)
theorem dX6_isComparable_55 : decode cX6_isComparable 55 = .ok (.iload_n 2, 1) := dk_28 (dk_at dksX6_isComparable_2 7 rfl rfl)
theorem dX6_isComparable_56 : decode cX6_isComparable 56 = .ok (.invokeinterface 50 2, 5) := by decide +kernel
theorem dX6_isComparable_61 : decode cX6_isComparable 61 = .ok (.checkcast 54, 3) := dk_192 0 54 (dk_at dksX6_isComparable_2 13 rfl rfl)
theorem dX6_isComparable_64 : decode cX6_isComparable 64 = .ok (.invokevirtual 159, 3) := dk_182 0 159 (dk_at dksX6_isComparable_2 16 rfl rfl)
theorem dX6_isComparable_67 : decode cX6_isComparable 67 = .ok (.ifCond .ne 5, 3) := dk_154 0 5 (dk_at dksX6_isComparable_2 19 rfl rfl)
theorem dX6_isComparable_70 : decode cX6_isComparable 70 = .ok (.iconst 0, 1) := dk_3 (dk_at dksX6_isComparable_2 22 rfl rfl)
theorem dX6_isComparable_71 : decode cX6_isComparable 71 = .ok (.ireturn, 1) := dk_172 (dk_at dksX6_isComparable_2 23 rfl rfl)
theorem dX6_isComparable_72 : decode cX6_isComparable 72 = .ok (.iinc 2 1, 3) := dk_132 2 1 (dk_at dksX6_isComparable_3 0 rfl rfl)
theorem dX6_isComparable_75 : decode cX6_isComparable 75 = .ok (.goto (-50), 3) := dk_167 255 206 (dk_at dksX6_isComparable_3 3 rfl rfl)
theorem dX6_isComparable_78 : decode cX6_isComparable 78 = .ok (.iconst 1, 1) := dk_4 (dk_at dksX6_isComparable_3 6 rfl rfl)
theorem dX6_isComparable_79 : decode cX6_isComparable 79 = .ok (.ireturn, 1) := dk_172 (dk_at dksX6_isComparable_3 7 rfl rfl)
abbrev cX6_number : ByteArray := prog_28_method_10_code
def yX6_number : MethodName := ⟨RX6, "number", "(LCoverHouse$Full;)I"⟩
def dkwX6_number_2 : List UInt8 := [192, 0, 92, 43, 180, 0, 131, 29, 46, 182, 0, 137, 96, 61, 132, 3, 1, 167, 255, 198, 28, 172]
abbrev dktX6_number_2 : List UInt8 := dkwX6_number_2 ++ []
def dkwX6_number_1 : List UInt8 := [185, 0, 50, 2, 0, 192, 0, 92, 180, 0, 99, 104, 42, 180, 0, 41, 29, 185, 0, 50, 2, 0]
abbrev dktX6_number_1 : List UInt8 := dkwX6_number_1 ++ dktX6_number_2
def dkwX6_number_0 : List UInt8 := [3, 61, 3, 62, 29, 42, 180, 0, 12, 185, 0, 44, 1, 0, 162, 0, 51, 28, 42, 180, 0, 41, 29]
abbrev dktX6_number_0 : List UInt8 := dkwX6_number_0 ++ dktX6_number_1
theorem dksX6_number_0 : cX6_number.data.toList.drop 0 = dktX6_number_0 := by decide +kernel
theorem dksX6_number_1 : cX6_number.data.toList.drop 23 = dktX6_number_1 := dk_seg dksX6_number_0 23 rfl rfl
theorem dksX6_number_2 : cX6_number.data.toList.drop 45 = dktX6_number_2 := dk_seg dksX6_number_1 22 rfl rfl
theorem dX6_number_0 : decode cX6_number 0 = .ok (.iconst 0, 1) := dk_3 (dk_at dksX6_number_0 0 rfl rfl)
theorem dX6_number_1 : decode cX6_number 1 = .ok (.istore_n 2, 1) := dk_61 (dk_at dksX6_number_0 1 rfl rfl)
theorem dX6_number_2 : decode cX6_number 2 = .ok (.iconst 0, 1) := dk_3 (dk_at dksX6_number_0 2 rfl rfl)
theorem dX6_number_3 : decode cX6_number 3 = .ok (.istore_n 3, 1) := dk_62 (dk_at dksX6_number_0 3 rfl rfl)
theorem dX6_number_4 : decode cX6_number 4 = .ok (.iload_n 3, 1) := dk_29 (dk_at dksX6_number_0 4 rfl rfl)
theorem dX6_number_5 : decode cX6_number 5 = .ok (.aload_n 0, 1) := dk_42 (dk_at dksX6_number_0 5 rfl rfl)
theorem dX6_number_6 : decode cX6_number 6 = .ok (.getfield 12, 3) := dk_180 0 12 (dk_at dksX6_number_0 6 rfl rfl)
theorem dX6_number_9 : decode cX6_number 9 = .ok (.invokeinterface 44 1, 5) := by decide +kernel
theorem dX6_number_14 : decode cX6_number 14 = .ok (.if_icmp .ge 51, 3) := dk_162 0 51 (dk_at dksX6_number_0 14 rfl rfl)
theorem dX6_number_17 : decode cX6_number 17 = .ok (.iload_n 2, 1) := dk_28 (dk_at dksX6_number_0 17 rfl rfl)
theorem dX6_number_18 : decode cX6_number 18 = .ok (.aload_n 0, 1) := dk_42 (dk_at dksX6_number_0 18 rfl rfl)
theorem dX6_number_19 : decode cX6_number 19 = .ok (.getfield 41, 3) := dk_180 0 41 (dk_at dksX6_number_0 19 rfl rfl)
theorem dX6_number_22 : decode cX6_number 22 = .ok (.iload_n 3, 1) := dk_29 (dk_at dksX6_number_0 22 rfl rfl)
theorem dX6_number_23 : decode cX6_number 23 = .ok (.invokeinterface 50 2, 5) := by decide +kernel
theorem dX6_number_28 : decode cX6_number 28 = .ok (.checkcast 92, 3) := dk_192 0 92 (dk_at dksX6_number_1 5 rfl rfl)
theorem dX6_number_31 : decode cX6_number 31 = .ok (.getfield 99, 3) := dk_180 0 99 (dk_at dksX6_number_1 8 rfl rfl)
theorem dX6_number_34 : decode cX6_number 34 = .ok (.imul, 1) := dk_104 (dk_at dksX6_number_1 11 rfl rfl)
theorem dX6_number_35 : decode cX6_number 35 = .ok (.aload_n 0, 1) := dk_42 (dk_at dksX6_number_1 12 rfl rfl)
theorem dX6_number_36 : decode cX6_number 36 = .ok (.getfield 41, 3) := dk_180 0 41 (dk_at dksX6_number_1 13 rfl rfl)
theorem dX6_number_39 : decode cX6_number 39 = .ok (.iload_n 3, 1) := dk_29 (dk_at dksX6_number_1 16 rfl rfl)
theorem dX6_number_40 : decode cX6_number 40 = .ok (.invokeinterface 50 2, 5) := by decide +kernel
theorem dX6_number_45 : decode cX6_number 45 = .ok (.checkcast 92, 3) := dk_192 0 92 (dk_at dksX6_number_2 0 rfl rfl)
theorem dX6_number_48 : decode cX6_number 48 = .ok (.aload_n 1, 1) := dk_43 (dk_at dksX6_number_2 3 rfl rfl)
theorem dX6_number_49 : decode cX6_number 49 = .ok (.getfield 131, 3) := dk_180 0 131 (dk_at dksX6_number_2 4 rfl rfl)
theorem dX6_number_52 : decode cX6_number 52 = .ok (.iload_n 3, 1) := dk_29 (dk_at dksX6_number_2 7 rfl rfl)
theorem dX6_number_53 : decode cX6_number 53 = .ok (.iaload, 1) := dk_46 (dk_at dksX6_number_2 8 rfl rfl)
theorem dX6_number_54 : decode cX6_number 54 = .ok (.invokevirtual 137, 3) := dk_182 0 137 (dk_at dksX6_number_2 9 rfl rfl)
theorem dX6_number_57 : decode cX6_number 57 = .ok (.iadd, 1) := dk_96 (dk_at dksX6_number_2 12 rfl rfl)
theorem dX6_number_58 : decode cX6_number 58 = .ok (.istore_n 2, 1) := dk_61 (dk_at dksX6_number_2 13 rfl rfl)
theorem dX6_number_59 : decode cX6_number 59 = .ok (.iinc 3 1, 3) := dk_132 3 1 (dk_at dksX6_number_2 14 rfl rfl)
theorem dX6_number_62 : decode cX6_number 62 = .ok (.goto (-58), 3) := dk_167 255 198 (dk_at dksX6_number_2 17 rfl rfl)
theorem dX6_number_65 : decode cX6_number 65 = .ok (.iload_n 2, 1) := dk_28 (dk_at dksX6_number_2 20 rfl rfl)
theorem dX6_number_66 : decode cX6_number 66 = .ok (.ireturn, 1) := dk_172 (dk_at dksX6_number_2 21 rfl rfl)
theorem q145 : (Jvm.Cond.initialized "CoverHouse$Wording") ∈ lw_all := lw_g (lw_at lw_m1 18 rfl) rfl
theorem q246 : (Jvm.Cond.fieldLinkNest "CoverHouse$Wording" (131 : Nat) "CoverHouse$Full" "values" "[I" "CoverHouse") ∈ lw_tbl := lw_at lw_m1 119 rfl
theorem q249 : (Jvm.Cond.fieldLinkNest "CoverHouse$Wording" (122 : Nat) "CoverHouse$Full" "meanings" "[Z" "CoverHouse") ∈ lw_tbl := lw_at lw_m1 122 rfl
theorem q306 : (Jvm.Cond.fieldLinkNest "CoverHouse$Wording" (134 : Nat) "CoverHouse$Starts" "row" "[I" "CoverHouse") ∈ lw_tbl := lw_at lw_m1 179 rfl
theorem q310 : (Jvm.Cond.fieldLinkNest "CoverHouse$Wording" (99 : Nat) "CoverHouse$Starts" "size" "I" "CoverHouse") ∈ lw_tbl := lw_at lw_m1 183 rfl
theorem q383 : (Jvm.Cond.selects "CoverHouse$Wording" ({ cls := "java/lang/Object", name := "getClass", desc := "()Ljava/lang/Class;" } : Jvm.MethodName) ({ cls := "java/lang/Object", name := "getClass", desc := "()Ljava/lang/Class;" } : Jvm.MethodName)) ∈ lw_all := lw_g (lw_at lw_m2 16 rfl) rfl
theorem q565 : (Jvm.Cond.instantiable "CoverHouse$Wording" (14 : Nat)) ∈ lw_all := lw_g (lw_at lw_m2 198 rfl) rfl
theorem q567 : (Jvm.Cond.instanceMethod ({ cls := "CoverHouse$Wording", name := "<init>", desc := "()V" } : Jvm.MethodName)) ∈ lw_all := lw_g (lw_at lw_m2 200 rfl) rfl
theorem q568 : (Jvm.Cond.code ({ cls := "CoverHouse$Wording", name := "<init>", desc := "()V" } : Jvm.MethodName) prog_28_method_1_code (1 : Nat) (Option.none : Option Jvm.ClassFile.FieldType)) ∈ lw_all := lw_g (lw_at lw_m2 201 rfl) rfl
theorem q569 : (Jvm.Cond.methodLink "CoverHouse$Wording" (3 : Nat) ({ cls := "java/lang/Object", name := "<init>", desc := "()V" } : Jvm.MethodName)) ∈ lw_all := lw_g (lw_at lw_m2 202 rfl) rfl
theorem q570 : (Jvm.Cond.classLink "CoverHouse$Wording" (9 : Nat) "java/util/ArrayList") ∈ lw_all := lw_g (lw_at lw_m2 203 rfl) rfl
theorem q571 : (Jvm.Cond.methodLink "CoverHouse$Wording" (11 : Nat) ({ cls := "java/util/ArrayList", name := "<init>", desc := "()V" } : Jvm.MethodName)) ∈ lw_all := lw_g (lw_at lw_m2 204 rfl) rfl
theorem q572 : (Jvm.Cond.fieldLink "CoverHouse$Wording" (12 : Nat) "CoverHouse$Wording" "facts" "Ljava/util/List;") ∈ lw_all := lw_g (lw_at lw_m2 205 rfl) rfl
theorem q578 : (Jvm.Cond.fieldLink "CoverHouse$Wording" (18 : Nat) "CoverHouse$Wording" "meaningNames" "Ljava/util/List;") ∈ lw_all := lw_g (lw_at lw_m2 211 rfl) rfl
theorem q580 : (Jvm.Cond.fieldLink "CoverHouse$Wording" (21 : Nat) "CoverHouse$Wording" "meanings" "Ljava/util/List;") ∈ lw_all := lw_g (lw_at lw_m2 213 rfl) rfl
theorem q582 : (Jvm.Cond.fieldLink "CoverHouse$Wording" (24 : Nat) "CoverHouse$Wording" "clauses" "Ljava/util/List;") ∈ lw_all := lw_g (lw_at lw_m2 215 rfl) rfl
theorem q585 : (Jvm.Cond.fieldLink "CoverHouse$Wording" (27 : Nat) "CoverHouse$Wording" "rows" "Ljava/util/List;") ∈ lw_all := lw_g (lw_at lw_m2 218 rfl) rfl
theorem q588 : (Jvm.Cond.fieldLink "CoverHouse$Wording" (30 : Nat) "CoverHouse$Wording" "first" "I") ∈ lw_all := lw_g (lw_at lw_m2 221 rfl) rfl
theorem q591 : (Jvm.Cond.fieldLink "CoverHouse$Wording" (34 : Nat) "CoverHouse$Wording" "share" "I") ∈ lw_all := lw_g (lw_at lw_m2 224 rfl) rfl
theorem q594 : (Jvm.Cond.fieldLink "CoverHouse$Wording" (37 : Nat) "CoverHouse$Wording" "most" "[I") ∈ lw_all := lw_g (lw_at lw_m2 227 rfl) rfl
theorem q597 : (Jvm.Cond.fieldLink "CoverHouse$Wording" (70 : Nat) "CoverHouse$Wording" "otherNodes" "I") ∈ lw_all := lw_g (lw_at lw_m2 230 rfl) rfl
theorem q599 : (Jvm.Cond.fieldLink "CoverHouse$Wording" (73 : Nat) "CoverHouse$Wording" "nodes" "I") ∈ lw_all := lw_g (lw_at lw_m2 232 rfl) rfl
theorem q601 : (Jvm.Cond.fieldLink "CoverHouse$Wording" (41 : Nat) "CoverHouse$Wording" "starts" "Ljava/util/List;") ∈ lw_all := lw_g (lw_at lw_m2 234 rfl) rfl
theorem q605 : (Jvm.Cond.fieldLink "CoverHouse$Wording" (109 : Nat) "CoverHouse$Wording" "cells" "I") ∈ lw_all := lw_g (lw_at lw_m2 238 rfl) rfl
theorem q609 : (Jvm.Cond.fieldLink "CoverHouse$Wording" (141 : Nat) "CoverHouse$Wording" "answers" "[B") ∈ lw_all := lw_g (lw_at lw_m3 2 rfl) rfl
theorem q610 : (Jvm.Cond.fieldLink "CoverHouse$Wording" (145 : Nat) "CoverHouse$Wording" "deciders" "[B") ∈ lw_all := lw_g (lw_at lw_m3 3 rfl) rfl
theorem q612 : (Jvm.Cond.laysFinal "CoverHouse$Wording" "CoverHouse$Wording" "facts" "Ljava/util/List;") ∈ lw_all := lw_g (lw_at lw_m3 5 rfl) rfl
theorem q613 : (Jvm.Cond.soleField "CoverHouse$Wording" "facts") ∈ lw_all := lw_g (lw_at lw_m3 6 rfl) rfl
theorem q614 : (Jvm.Cond.laysFinal "CoverHouse$Wording" "CoverHouse$Wording" "meaningNames" "Ljava/util/List;") ∈ lw_all := lw_g (lw_at lw_m3 7 rfl) rfl
theorem q615 : (Jvm.Cond.soleField "CoverHouse$Wording" "meaningNames") ∈ lw_all := lw_g (lw_at lw_m3 8 rfl) rfl
theorem q616 : (Jvm.Cond.laysFinal "CoverHouse$Wording" "CoverHouse$Wording" "meanings" "Ljava/util/List;") ∈ lw_all := lw_g (lw_at lw_m3 9 rfl) rfl
theorem q617 : (Jvm.Cond.soleField "CoverHouse$Wording" "meanings") ∈ lw_all := lw_g (lw_at lw_m3 10 rfl) rfl
theorem q618 : (Jvm.Cond.laysFinal "CoverHouse$Wording" "CoverHouse$Wording" "clauses" "Ljava/util/List;") ∈ lw_all := lw_g (lw_at lw_m3 11 rfl) rfl
theorem q619 : (Jvm.Cond.soleField "CoverHouse$Wording" "clauses") ∈ lw_all := lw_g (lw_at lw_m3 12 rfl) rfl
theorem q620 : (Jvm.Cond.laysFinal "CoverHouse$Wording" "CoverHouse$Wording" "rows" "Ljava/util/List;") ∈ lw_all := lw_g (lw_at lw_m3 13 rfl) rfl
theorem q621 : (Jvm.Cond.soleField "CoverHouse$Wording" "rows") ∈ lw_all := lw_g (lw_at lw_m3 14 rfl) rfl
theorem q622 : (Jvm.Cond.lays "CoverHouse$Wording" "CoverHouse$Wording" "first" "I") ∈ lw_all := lw_g (lw_at lw_m3 15 rfl) rfl
theorem q623 : (Jvm.Cond.soleField "CoverHouse$Wording" "first") ∈ lw_all := lw_g (lw_at lw_m3 16 rfl) rfl
theorem q624 : (Jvm.Cond.lays "CoverHouse$Wording" "CoverHouse$Wording" "share" "I") ∈ lw_all := lw_g (lw_at lw_m3 17 rfl) rfl
theorem q625 : (Jvm.Cond.soleField "CoverHouse$Wording" "share") ∈ lw_all := lw_g (lw_at lw_m3 18 rfl) rfl
theorem q626 : (Jvm.Cond.laysFinal "CoverHouse$Wording" "CoverHouse$Wording" "most" "[I") ∈ lw_all := lw_g (lw_at lw_m3 19 rfl) rfl
theorem q627 : (Jvm.Cond.soleField "CoverHouse$Wording" "most") ∈ lw_all := lw_g (lw_at lw_m3 20 rfl) rfl
theorem q628 : (Jvm.Cond.lays "CoverHouse$Wording" "CoverHouse$Wording" "otherNodes" "I") ∈ lw_all := lw_g (lw_at lw_m3 21 rfl) rfl
theorem q629 : (Jvm.Cond.soleField "CoverHouse$Wording" "otherNodes") ∈ lw_all := lw_g (lw_at lw_m3 22 rfl) rfl
theorem q630 : (Jvm.Cond.lays "CoverHouse$Wording" "CoverHouse$Wording" "nodes" "I") ∈ lw_all := lw_g (lw_at lw_m3 23 rfl) rfl
theorem q631 : (Jvm.Cond.soleField "CoverHouse$Wording" "nodes") ∈ lw_all := lw_g (lw_at lw_m3 24 rfl) rfl
theorem q632 : (Jvm.Cond.laysFinal "CoverHouse$Wording" "CoverHouse$Wording" "starts" "Ljava/util/List;") ∈ lw_all := lw_g (lw_at lw_m3 25 rfl) rfl
theorem q633 : (Jvm.Cond.soleField "CoverHouse$Wording" "starts") ∈ lw_all := lw_g (lw_at lw_m3 26 rfl) rfl
theorem q634 : (Jvm.Cond.lays "CoverHouse$Wording" "CoverHouse$Wording" "cells" "I") ∈ lw_all := lw_g (lw_at lw_m3 27 rfl) rfl
theorem q635 : (Jvm.Cond.soleField "CoverHouse$Wording" "cells") ∈ lw_all := lw_g (lw_at lw_m3 28 rfl) rfl
theorem q636 : (Jvm.Cond.lays "CoverHouse$Wording" "CoverHouse$Wording" "answers" "[B") ∈ lw_all := lw_g (lw_at lw_m3 29 rfl) rfl
theorem q637 : (Jvm.Cond.soleField "CoverHouse$Wording" "answers") ∈ lw_all := lw_g (lw_at lw_m3 30 rfl) rfl
theorem q638 : (Jvm.Cond.lays "CoverHouse$Wording" "CoverHouse$Wording" "deciders" "[B") ∈ lw_all := lw_g (lw_at lw_m3 31 rfl) rfl
theorem q639 : (Jvm.Cond.soleField "CoverHouse$Wording" "deciders") ∈ lw_all := lw_g (lw_at lw_m3 32 rfl) rfl
theorem q640 : (Jvm.Cond.superclass "CoverHouse$Wording" "java/lang/Object") ∈ lw_all := lw_g (lw_at lw_m3 33 rfl) rfl
theorem q804 : (Jvm.Cond.instanceMethod ({ cls := "CoverHouse$Wording", name := "fact", desc := "(J)I" } : Jvm.MethodName)) ∈ lw_all := lw_g (lw_at lw_m3 197 rfl) rfl
theorem q805 : (Jvm.Cond.selects "CoverHouse$Wording" ({ cls := "CoverHouse$Wording", name := "fact", desc := "(J)I" } : Jvm.MethodName) ({ cls := "CoverHouse$Wording", name := "fact", desc := "(J)I" } : Jvm.MethodName)) ∈ lw_all := lw_g (lw_at lw_m3 198 rfl) rfl
theorem q806 : (Jvm.Cond.code ({ cls := "CoverHouse$Wording", name := "fact", desc := "(J)I" } : Jvm.MethodName) prog_28_method_2_code (4 : Nat) (Option.some Jvm.ClassFile.FieldType.int)) ∈ lw_all := lw_g (lw_at lw_m3 199 rfl) rfl
theorem q807 : (Jvm.Cond.interfaceEntry "CoverHouse$Wording" (44 : Nat)) ∈ lw_tbl := lw_at lw_m3 200 rfl
theorem q808 : (Jvm.Cond.methodLink "CoverHouse$Wording" (44 : Nat) ({ cls := "java/util/List", name := "size", desc := "()I" } : Jvm.MethodName)) ∈ lw_all := lw_g (lw_at lw_m3 201 rfl) rfl
theorem q809 : (Jvm.Cond.interfaceEntry "CoverHouse$Wording" (50 : Nat)) ∈ lw_tbl := lw_at lw_m3 202 rfl
theorem q810 : (Jvm.Cond.methodLink "CoverHouse$Wording" (50 : Nat) ({ cls := "java/util/List", name := "get", desc := "(I)Ljava/lang/Object;" } : Jvm.MethodName)) ∈ lw_all := lw_g (lw_at lw_m3 203 rfl) rfl
theorem q828 : (Jvm.Cond.classLink "CoverHouse$Wording" (54 : Nat) "CoverHouse$Fact") ∈ lw_all := lw_g (lw_at lw_m3 221 rfl) rfl
theorem q830 : (Jvm.Cond.instanceMethod ({ cls := "CoverHouse$Wording", name := "meaning", desc := "(J)I" } : Jvm.MethodName)) ∈ lw_all := lw_g (lw_at lw_m3 223 rfl) rfl
theorem q831 : (Jvm.Cond.selects "CoverHouse$Wording" ({ cls := "CoverHouse$Wording", name := "meaning", desc := "(J)I" } : Jvm.MethodName) ({ cls := "CoverHouse$Wording", name := "meaning", desc := "(J)I" } : Jvm.MethodName)) ∈ lw_all := lw_g (lw_at lw_m3 224 rfl) rfl
theorem q832 : (Jvm.Cond.code ({ cls := "CoverHouse$Wording", name := "meaning", desc := "(J)I" } : Jvm.MethodName) prog_28_method_3_code (4 : Nat) (Option.some Jvm.ClassFile.FieldType.int)) ∈ lw_all := lw_g (lw_at lw_m3 225 rfl) rfl
theorem q833 : (Jvm.Cond.classLink "CoverHouse$Wording" (60 : Nat) "java/lang/Long") ∈ lw_all := lw_g (lw_at lw_m3 226 rfl) rfl
theorem q834 : (Jvm.Cond.methodLink "CoverHouse$Wording" (62 : Nat) ({ cls := "java/lang/Long", name := "longValue", desc := "()J" } : Jvm.MethodName)) ∈ lw_all := lw_g (lw_at lw_m3 227 rfl) rfl
theorem q848 : (Jvm.Cond.fieldLinkNest "CoverHouse$Wording" (56 : Nat) "CoverHouse$Fact" "name" "J" "CoverHouse") ∈ lw_tbl := lw_at lw_m4 1 rfl
theorem q1064 : (Jvm.Cond.fieldLinkNest "CoverHouse$Wording" (156 : Nat) "CoverHouse$Clause" "kind" "I" "CoverHouse") ∈ lw_tbl := lw_at lw_m4 217 rfl
theorem q1067 : (Jvm.Cond.fieldLinkNest "CoverHouse$Wording" (85 : Nat) "CoverHouse$Clause" "cond" "LCoverHouse$Cond;" "CoverHouse") ∈ lw_tbl := lw_at lw_m4 220 rfl
theorem q1069 : (Jvm.Cond.fieldLinkNest "CoverHouse$Wording" (78 : Nat) "CoverHouse$Clause" "nodes" "I" "CoverHouse") ∈ lw_tbl := lw_at lw_m4 222 rfl
theorem q1124 : (Jvm.Cond.fieldLinkNest "CoverHouse$Wording" (91 : Nat) "CoverHouse$PriceRow" "cond" "LCoverHouse$Cond;" "CoverHouse") ∈ lw_tbl := lw_at lw_m5 37 rfl
theorem q1138 : (Jvm.Cond.instanceMethod ({ cls := "CoverHouse$Wording", name := "isParted", desc := "(Ljava/util/List;)Z" } : Jvm.MethodName)) ∈ lw_all := lw_g (lw_at lw_m5 51 rfl) rfl
theorem q1139 : (Jvm.Cond.selects "CoverHouse$Wording" ({ cls := "CoverHouse$Wording", name := "isParted", desc := "(Ljava/util/List;)Z" } : Jvm.MethodName) ({ cls := "CoverHouse$Wording", name := "isParted", desc := "(Ljava/util/List;)Z" } : Jvm.MethodName)) ∈ lw_all := lw_g (lw_at lw_m5 52 rfl) rfl
theorem q1140 : (Jvm.Cond.code ({ cls := "CoverHouse$Wording", name := "isParted", desc := "(Ljava/util/List;)Z" } : Jvm.MethodName) prog_28_method_7_code (6 : Nat) (Option.some Jvm.ClassFile.FieldType.boolean)) ∈ lw_all := lw_g (lw_at lw_m5 53 rfl) rfl
theorem q1141 : (Jvm.Cond.classLink "CoverHouse$Wording" (92 : Nat) "CoverHouse$Starts") ∈ lw_all := lw_g (lw_at lw_m5 54 rfl) rfl
theorem q1142 : (Jvm.Cond.methodLink "CoverHouse$Wording" (94 : Nat) ({ cls := "CoverHouse$Starts", name := "begin", desc := "(LCoverHouse$Fact;)V" } : Jvm.MethodName)) ∈ lw_all := lw_g (lw_at lw_m5 55 rfl) rfl
theorem q1146 : (Jvm.Cond.methodLink "CoverHouse$Wording" (98 : Nat) ({ cls := "CoverHouse$Wording", name := "part", desc := "(ILCoverHouse$Starts;)V" } : Jvm.MethodName)) ∈ lw_all := lw_g (lw_at lw_m5 59 rfl) rfl
theorem q1147 : (Jvm.Cond.instanceMethod ({ cls := "CoverHouse$Wording", name := "part", desc := "(ILCoverHouse$Starts;)V" } : Jvm.MethodName)) ∈ lw_all := lw_g (lw_at lw_m5 60 rfl) rfl
theorem q1148 : (Jvm.Cond.selects "CoverHouse$Wording" ({ cls := "CoverHouse$Wording", name := "part", desc := "(ILCoverHouse$Starts;)V" } : Jvm.MethodName) ({ cls := "CoverHouse$Wording", name := "part", desc := "(ILCoverHouse$Starts;)V" } : Jvm.MethodName)) ∈ lw_all := lw_g (lw_at lw_m5 61 rfl) rfl
theorem q1149 : (Jvm.Cond.code ({ cls := "CoverHouse$Wording", name := "part", desc := "(ILCoverHouse$Starts;)V" } : Jvm.MethodName) prog_28_method_6_code (4 : Nat) (Option.none : Option Jvm.ClassFile.FieldType)) ∈ lw_all := lw_g (lw_at lw_m5 62 rfl) rfl
theorem q1150 : (Jvm.Cond.classLink "CoverHouse$Wording" (79 : Nat) "CoverHouse$Cond") ∈ lw_all := lw_g (lw_at lw_m5 63 rfl) rfl
theorem q1151 : (Jvm.Cond.methodLink "CoverHouse$Wording" (81 : Nat) ({ cls := "CoverHouse$Cond", name := "part", desc := "(ILCoverHouse$Starts;)V" } : Jvm.MethodName)) ∈ lw_all := lw_g (lw_at lw_m5 64 rfl) rfl
theorem q1181 : (Jvm.Cond.classLink "CoverHouse$Wording" (76 : Nat) "CoverHouse$Clause") ∈ lw_all := lw_g (lw_at lw_m5 94 rfl) rfl
theorem q1182 : (Jvm.Cond.classLink "CoverHouse$Wording" (89 : Nat) "CoverHouse$PriceRow") ∈ lw_all := lw_g (lw_at lw_m5 95 rfl) rfl
theorem q1183 : (Jvm.Cond.constantLong "CoverHouse$Wording" (101 : Nat) (1000000 : Int64)) ∈ lw_all := lw_g (lw_at lw_m5 96 rfl) rfl
theorem q1184 : (Jvm.Cond.methodLink "CoverHouse$Wording" (103 : Nat) ({ cls := "java/lang/Math", name := "min", desc := "(JJ)J" } : Jvm.MethodName)) ∈ lw_all := lw_g (lw_at lw_m5 97 rfl) rfl
theorem q1187 : (Jvm.Cond.constantLong "CoverHouse$Wording" (112 : Nat) (2000 : Int64)) ∈ lw_all := lw_g (lw_at lw_m5 100 rfl) rfl
theorem q1188 : (Jvm.Cond.methodLink "CoverHouse$Wording" (114 : Nat) ({ cls := "CoverHouse$Starts", name := "cutOut", desc := "()LCoverHouse$Starts;" } : Jvm.MethodName)) ∈ lw_all := lw_g (lw_at lw_m5 101 rfl) rfl
theorem q1194 : (Jvm.Cond.interfaceEntry "CoverHouse$Wording" (118 : Nat)) ∈ lw_tbl := lw_at lw_m5 107 rfl
theorem q1195 : (Jvm.Cond.methodLink "CoverHouse$Wording" (118 : Nat) ({ cls := "java/util/List", name := "add", desc := "(Ljava/lang/Object;)Z" } : Jvm.MethodName)) ∈ lw_all := lw_g (lw_at lw_m5 108 rfl) rfl
theorem q1198 : (Jvm.Cond.instanceMethod ({ cls := "CoverHouse$Wording", name := "countNodes", desc := "()I" } : Jvm.MethodName)) ∈ lw_all := lw_g (lw_at lw_m5 111 rfl) rfl
theorem q1199 : (Jvm.Cond.selects "CoverHouse$Wording" ({ cls := "CoverHouse$Wording", name := "countNodes", desc := "()I" } : Jvm.MethodName) ({ cls := "CoverHouse$Wording", name := "countNodes", desc := "()I" } : Jvm.MethodName)) ∈ lw_all := lw_g (lw_at lw_m5 112 rfl) rfl
theorem q1200 : (Jvm.Cond.code ({ cls := "CoverHouse$Wording", name := "countNodes", desc := "()I" } : Jvm.MethodName) prog_28_method_5_code (2 : Nat) (Option.some Jvm.ClassFile.FieldType.int)) ∈ lw_all := lw_g (lw_at lw_m5 113 rfl) rfl
theorem q1202 : (Jvm.Cond.instanceMethod ({ cls := "CoverHouse$Wording", name := "answerAll", desc := "(LCoverHouse$Full;)V" } : Jvm.MethodName)) ∈ lw_all := lw_g (lw_at lw_m5 115 rfl) rfl
theorem q1203 : (Jvm.Cond.selects "CoverHouse$Wording" ({ cls := "CoverHouse$Wording", name := "answerAll", desc := "(LCoverHouse$Full;)V" } : Jvm.MethodName) ({ cls := "CoverHouse$Wording", name := "answerAll", desc := "(LCoverHouse$Full;)V" } : Jvm.MethodName)) ∈ lw_all := lw_g (lw_at lw_m5 116 rfl) rfl
theorem q1204 : (Jvm.Cond.code ({ cls := "CoverHouse$Wording", name := "answerAll", desc := "(LCoverHouse$Full;)V" } : Jvm.MethodName) prog_28_method_11_code (6 : Nat) (Option.none : Option Jvm.ClassFile.FieldType)) ∈ lw_all := lw_g (lw_at lw_m5 117 rfl) rfl
theorem q1205 : (Jvm.Cond.methodLink "CoverHouse$Wording" (148 : Nat) ({ cls := "CoverHouse$Wording", name := "way", desc := "(ILCoverHouse$Full;)V" } : Jvm.MethodName)) ∈ lw_all := lw_g (lw_at lw_m5 118 rfl) rfl
theorem q1206 : (Jvm.Cond.instanceMethod ({ cls := "CoverHouse$Wording", name := "way", desc := "(ILCoverHouse$Full;)V" } : Jvm.MethodName)) ∈ lw_all := lw_g (lw_at lw_m5 119 rfl) rfl
theorem q1207 : (Jvm.Cond.selects "CoverHouse$Wording" ({ cls := "CoverHouse$Wording", name := "way", desc := "(ILCoverHouse$Full;)V" } : Jvm.MethodName) ({ cls := "CoverHouse$Wording", name := "way", desc := "(ILCoverHouse$Full;)V" } : Jvm.MethodName)) ∈ lw_all := lw_g (lw_at lw_m5 120 rfl) rfl
theorem q1208 : (Jvm.Cond.code ({ cls := "CoverHouse$Wording", name := "way", desc := "(ILCoverHouse$Full;)V" } : Jvm.MethodName) prog_28_method_9_code (6 : Nat) (Option.none : Option Jvm.ClassFile.FieldType)) ∈ lw_all := lw_g (lw_at lw_m5 121 rfl) rfl
theorem q1209 : (Jvm.Cond.methodLink "CoverHouse$Wording" (152 : Nat) ({ cls := "CoverHouse$Wording", name := "mean", desc := "(LCoverHouse$Full;)V" } : Jvm.MethodName)) ∈ lw_all := lw_g (lw_at lw_m5 122 rfl) rfl
theorem q1210 : (Jvm.Cond.instanceMethod ({ cls := "CoverHouse$Wording", name := "mean", desc := "(LCoverHouse$Full;)V" } : Jvm.MethodName)) ∈ lw_all := lw_g (lw_at lw_m5 123 rfl) rfl
theorem q1211 : (Jvm.Cond.selects "CoverHouse$Wording" ({ cls := "CoverHouse$Wording", name := "mean", desc := "(LCoverHouse$Full;)V" } : Jvm.MethodName) ({ cls := "CoverHouse$Wording", name := "mean", desc := "(LCoverHouse$Full;)V" } : Jvm.MethodName)) ∈ lw_all := lw_g (lw_at lw_m5 124 rfl) rfl
theorem q1212 : (Jvm.Cond.code ({ cls := "CoverHouse$Wording", name := "mean", desc := "(LCoverHouse$Full;)V" } : Jvm.MethodName) prog_28_method_8_code (3 : Nat) (Option.none : Option Jvm.ClassFile.FieldType)) ∈ lw_all := lw_g (lw_at lw_m5 125 rfl) rfl
theorem q1213 : (Jvm.Cond.methodLink "CoverHouse$Wording" (127 : Nat) ({ cls := "CoverHouse$Cond", name := "isTrue", desc := "(LCoverHouse$Full;)Z" } : Jvm.MethodName)) ∈ lw_all := lw_g (lw_at lw_m5 126 rfl) rfl
theorem q1275 : (Jvm.Cond.instanceMethod ({ cls := "CoverHouse$Wording", name := "takeOver", desc := "(LCoverHouse$Wording;)V" } : Jvm.MethodName)) ∈ lw_all := lw_g (lw_at lw_m5 188 rfl) rfl
theorem q1276 : (Jvm.Cond.selects "CoverHouse$Wording" ({ cls := "CoverHouse$Wording", name := "takeOver", desc := "(LCoverHouse$Wording;)V" } : Jvm.MethodName) ({ cls := "CoverHouse$Wording", name := "takeOver", desc := "(LCoverHouse$Wording;)V" } : Jvm.MethodName)) ∈ lw_all := lw_g (lw_at lw_m5 189 rfl) rfl
theorem q1277 : (Jvm.Cond.code ({ cls := "CoverHouse$Wording", name := "takeOver", desc := "(LCoverHouse$Wording;)V" } : Jvm.MethodName) prog_28_method_4_code (3 : Nat) (Option.none : Option Jvm.ClassFile.FieldType)) ∈ lw_all := lw_g (lw_at lw_m5 190 rfl) rfl
theorem q1278 : (Jvm.Cond.interfaceEntry "CoverHouse$Wording" (66 : Nat)) ∈ lw_tbl := lw_at lw_m5 191 rfl
theorem q1279 : (Jvm.Cond.methodLink "CoverHouse$Wording" (66 : Nat) ({ cls := "java/util/List", name := "addAll", desc := "(Ljava/util/Collection;)Z" } : Jvm.MethodName)) ∈ lw_all := lw_g (lw_at lw_m5 192 rfl) rfl
theorem q1352 : (Jvm.Cond.instanceMethod ({ cls := "CoverHouse$Wording", name := "isComparable", desc := "(LCoverHouse$Wording;)Z" } : Jvm.MethodName)) ∈ lw_all := lw_g (lw_at lw_m6 25 rfl) rfl
theorem q1353 : (Jvm.Cond.selects "CoverHouse$Wording" ({ cls := "CoverHouse$Wording", name := "isComparable", desc := "(LCoverHouse$Wording;)Z" } : Jvm.MethodName) ({ cls := "CoverHouse$Wording", name := "isComparable", desc := "(LCoverHouse$Wording;)Z" } : Jvm.MethodName)) ∈ lw_all := lw_g (lw_at lw_m6 26 rfl) rfl
theorem q1354 : (Jvm.Cond.code ({ cls := "CoverHouse$Wording", name := "isComparable", desc := "(LCoverHouse$Wording;)Z" } : Jvm.MethodName) prog_28_method_12_code (3 : Nat) (Option.some Jvm.ClassFile.FieldType.boolean)) ∈ lw_all := lw_g (lw_at lw_m6 27 rfl) rfl
theorem q1355 : (Jvm.Cond.methodLink "CoverHouse$Wording" (159 : Nat) ({ cls := "CoverHouse$Fact", name := "isLike", desc := "(LCoverHouse$Fact;)Z" } : Jvm.MethodName)) ∈ lw_all := lw_g (lw_at lw_m6 28 rfl) rfl
theorem q1383 : (Jvm.Cond.instanceMethod ({ cls := "CoverHouse$Wording", name := "number", desc := "(LCoverHouse$Full;)I" } : Jvm.MethodName)) ∈ lw_all := lw_g (lw_at lw_m6 56 rfl) rfl
theorem q1384 : (Jvm.Cond.selects "CoverHouse$Wording" ({ cls := "CoverHouse$Wording", name := "number", desc := "(LCoverHouse$Full;)I" } : Jvm.MethodName) ({ cls := "CoverHouse$Wording", name := "number", desc := "(LCoverHouse$Full;)I" } : Jvm.MethodName)) ∈ lw_all := lw_g (lw_at lw_m6 57 rfl) rfl
theorem q1385 : (Jvm.Cond.code ({ cls := "CoverHouse$Wording", name := "number", desc := "(LCoverHouse$Full;)I" } : Jvm.MethodName) prog_28_method_10_code (4 : Nat) (Option.some Jvm.ClassFile.FieldType.int)) ∈ lw_all := lw_g (lw_at lw_m6 58 rfl) rfl
theorem q1386 : (Jvm.Cond.methodLink "CoverHouse$Wording" (137 : Nat) ({ cls := "CoverHouse$Starts", name := "cell", desc := "(I)I" } : Jvm.MethodName)) ∈ lw_all := lw_g (lw_at lw_m6 59 rfl) rfl
theorem q2696 : (Jvm.Cond.castable "CoverHouse$Wording" "java/lang/Object") ∈ lw_tbl := lw_at lw_m11 169 rfl
theorem in_X6 : ∀ w ∈ wsX60, w ∈ lw_all := lw_in wsX60 [612, 614, 616, 618, 620, 622, 624, 626, 628, 630, 632, 634, 636, 638] (by decide +kernel) (by decide +kernel)

/-! CoverHouse$Fault -/
set_option maxRecDepth 100000
def RX8 : String := "CoverHouse$Fault"
def TX8 : u_T := fun k => match k with
  | 0 => ("java/lang/Throwable", "cause", "Ljava/lang/Throwable;", false)
  | 1 => ("java/lang/Throwable", "stackTrace", "[Ljava/lang/StackTraceElement;", false)
  | 2 => ("java/lang/Throwable", "suppressedExceptions", "Ljava/util/List;", false)
  | 3 => ("java/lang/Throwable", "detailMessage", "Ljava/lang/String;", false)
  | 4 => ("java/lang/Throwable", "backtrace", "Ljava/lang/Object;", false)
  | 5 => ("java/lang/Throwable", "depth", "I", false)
  | 6 => ("CoverHouse$Fault", "kind", "I", true)
  | _ => ("CoverHouse$Fault", "place", "I", true)
def tyX8 : Nat → FieldType := fun k => match k with
  | 0 => .object "java/lang/Throwable"
  | 1 => .array (.object "java/lang/StackTraceElement")
  | 2 => .object "java/util/List"
  | 3 => .object "java/lang/String"
  | 4 => .object "java/lang/Object"
  | 5 => .int
  | 6 => .int
  | _ => .int
abbrev wsX80 : List Cond := u_ws RX8 TX8 8
theorem nmX8 : ∀ a, a < 8 → ∀ b, b < 8 → a ≠ b → (TX8 a).2.1 ≠ (TX8 b).2.1 := by decide +kernel
theorem tyX8_ok : ∀ k, k < 8 → parseFieldDescriptor (TX8 k).2.2.1 = some (tyX8 k) := by decide +kernel
abbrev cX8_init : ByteArray := prog_7_method_1_code
def yX8_init : MethodName := ⟨RX8, "<init>", "(II)V"⟩
def dkwX8_init_0 : List UInt8 := [42, 183, 0, 1, 42, 27, 181, 0, 7, 42, 28, 181, 0, 13, 177]
abbrev dktX8_init_0 : List UInt8 := dkwX8_init_0 ++ []
theorem dksX8_init_0 : cX8_init.data.toList.drop 0 = dktX8_init_0 := by decide +kernel
theorem dX8_init_0 : decode cX8_init 0 = .ok (.aload_n 0, 1) := dk_42 (dk_at dksX8_init_0 0 rfl rfl)
theorem dX8_init_1 : decode cX8_init 1 = .ok (.invokespecial 1, 3) := dk_183 0 1 (dk_at dksX8_init_0 1 rfl rfl)
theorem dX8_init_4 : decode cX8_init 4 = .ok (.aload_n 0, 1) := dk_42 (dk_at dksX8_init_0 4 rfl rfl)
theorem dX8_init_5 : decode cX8_init 5 = .ok (.iload_n 1, 1) := dk_27 (dk_at dksX8_init_0 5 rfl rfl)
theorem dX8_init_6 : decode cX8_init 6 = .ok (.putfield 7, 3) := dk_181 0 7 (dk_at dksX8_init_0 6 rfl rfl)
theorem dX8_init_9 : decode cX8_init 9 = .ok (.aload_n 0, 1) := dk_42 (dk_at dksX8_init_0 9 rfl rfl)
theorem dX8_init_10 : decode cX8_init 10 = .ok (.iload_n 2, 1) := dk_28 (dk_at dksX8_init_0 10 rfl rfl)
theorem dX8_init_11 : decode cX8_init 11 = .ok (.putfield 13, 3) := dk_181 0 13 (dk_at dksX8_init_0 11 rfl rfl)
theorem dX8_init_14 : decode cX8_init 14 = .ok (.return_, 1) := dk_177 (dk_at dksX8_init_0 14 rfl rfl)
theorem q150 : (Jvm.Cond.initialized "CoverHouse$Fault") ∈ lw_all := lw_g (lw_at lw_m1 23 rfl) rfl
theorem q363 : (Jvm.Cond.selects "CoverHouse$Fault" ({ cls := "java/lang/Object", name := "getClass", desc := "()Ljava/lang/Class;" } : Jvm.MethodName) ({ cls := "java/lang/Object", name := "getClass", desc := "()Ljava/lang/Class;" } : Jvm.MethodName)) ∈ lw_all := lw_g (lw_at lw_m1 236 rfl) rfl
theorem q668 : (Jvm.Cond.instantiable "CoverHouse$Fault" (8 : Nat)) ∈ lw_all := lw_g (lw_at lw_m3 61 rfl) rfl
theorem q669 : (Jvm.Cond.castable "CoverHouse$Fault" "CoverHouse$Fault") ∈ lw_tbl := lw_at lw_m3 62 rfl
theorem q676 : (Jvm.Cond.selects "CoverHouse$Fault" ({ cls := "java/lang/Throwable", name := "fillInStackTrace", desc := "(I)Ljava/lang/Throwable;" } : Jvm.MethodName) ({ cls := "java/lang/Throwable", name := "fillInStackTrace", desc := "(I)Ljava/lang/Throwable;" } : Jvm.MethodName)) ∈ lw_all := lw_g (lw_at lw_m3 69 rfl) rfl
theorem q677 : (Jvm.Cond.selects "CoverHouse$Fault" ({ cls := "java/lang/Throwable", name := "fillInStackTrace", desc := "()Ljava/lang/Throwable;" } : Jvm.MethodName) ({ cls := "java/lang/Throwable", name := "fillInStackTrace", desc := "()Ljava/lang/Throwable;" } : Jvm.MethodName)) ∈ lw_all := lw_g (lw_at lw_m3 70 rfl) rfl
theorem q678 : (Jvm.Cond.lays "CoverHouse$Fault" "java/lang/Throwable" "cause" "Ljava/lang/Throwable;") ∈ lw_all := lw_g (lw_at lw_m3 71 rfl) rfl
theorem q680 : (Jvm.Cond.lays "CoverHouse$Fault" "java/lang/Throwable" "stackTrace" "[Ljava/lang/StackTraceElement;") ∈ lw_all := lw_g (lw_at lw_m3 73 rfl) rfl
theorem q682 : (Jvm.Cond.lays "CoverHouse$Fault" "java/lang/Throwable" "suppressedExceptions" "Ljava/util/List;") ∈ lw_all := lw_g (lw_at lw_m3 75 rfl) rfl
theorem q684 : (Jvm.Cond.lays "CoverHouse$Fault" "java/lang/Throwable" "detailMessage" "Ljava/lang/String;") ∈ lw_all := lw_g (lw_at lw_m3 77 rfl) rfl
theorem q686 : (Jvm.Cond.lays "CoverHouse$Fault" "java/lang/Throwable" "backtrace" "Ljava/lang/Object;") ∈ lw_all := lw_g (lw_at lw_m3 79 rfl) rfl
theorem q707 : (Jvm.Cond.instanceMethod ({ cls := "CoverHouse$Fault", name := "<init>", desc := "(II)V" } : Jvm.MethodName)) ∈ lw_all := lw_g (lw_at lw_m3 100 rfl) rfl
theorem q708 : (Jvm.Cond.code ({ cls := "CoverHouse$Fault", name := "<init>", desc := "(II)V" } : Jvm.MethodName) prog_7_method_1_code (3 : Nat) (Option.none : Option Jvm.ClassFile.FieldType)) ∈ lw_all := lw_g (lw_at lw_m3 101 rfl) rfl
theorem q709 : (Jvm.Cond.methodLink "CoverHouse$Fault" (1 : Nat) ({ cls := "java/lang/RuntimeException", name := "<init>", desc := "()V" } : Jvm.MethodName)) ∈ lw_all := lw_g (lw_at lw_m3 102 rfl) rfl
theorem q716 : (Jvm.Cond.fieldLink "CoverHouse$Fault" (7 : Nat) "CoverHouse$Fault" "kind" "I") ∈ lw_all := lw_g (lw_at lw_m3 109 rfl) rfl
theorem q718 : (Jvm.Cond.fieldLink "CoverHouse$Fault" (13 : Nat) "CoverHouse$Fault" "place" "I") ∈ lw_all := lw_g (lw_at lw_m3 111 rfl) rfl
theorem q724 : (Jvm.Cond.laysFinal "CoverHouse$Fault" "CoverHouse$Fault" "kind" "I") ∈ lw_all := lw_g (lw_at lw_m3 117 rfl) rfl
theorem q725 : (Jvm.Cond.soleField "CoverHouse$Fault" "kind") ∈ lw_all := lw_g (lw_at lw_m3 118 rfl) rfl
theorem q726 : (Jvm.Cond.laysFinal "CoverHouse$Fault" "CoverHouse$Fault" "place" "I") ∈ lw_all := lw_g (lw_at lw_m3 119 rfl) rfl
theorem q727 : (Jvm.Cond.soleField "CoverHouse$Fault" "place") ∈ lw_all := lw_g (lw_at lw_m3 120 rfl) rfl
theorem q732 : (Jvm.Cond.lays "CoverHouse$Fault" "java/lang/Throwable" "depth" "I") ∈ lw_all := lw_g (lw_at lw_m3 125 rfl) rfl
theorem q735 : (Jvm.Cond.superclass "CoverHouse$Fault" "java/lang/RuntimeException") ∈ lw_all := lw_g (lw_at lw_m3 128 rfl) rfl
theorem q2698 : (Jvm.Cond.castable "CoverHouse$Fault" "java/lang/Object") ∈ lw_tbl := lw_at lw_m11 171 rfl
theorem in_X8 : ∀ w ∈ wsX80, w ∈ lw_all := lw_in wsX80 [678, 680, 682, 684, 686, 732, 724, 726] (by decide +kernel) (by decide +kernel)

/-! CoverHouse$Fact -/
set_option maxRecDepth 100000
def RX9 : String := "CoverHouse$Fact"
def TX9 : u_T := fun k => match k with
  | 0 => ("CoverHouse$Fact", "name", "J", true)
  | 1 => ("CoverHouse$Fact", "kind", "I", true)
  | 2 => ("CoverHouse$Fact", "choices", "[J", true)
  | 3 => ("CoverHouse$Fact", "many", "I", false)
  | 4 => ("CoverHouse$Fact", "low", "I", false)
  | _ => ("CoverHouse$Fact", "high", "I", false)
def tyX9 : Nat → FieldType := fun k => match k with
  | 0 => .long
  | 1 => .int
  | 2 => .array .long
  | 3 => .int
  | 4 => .int
  | _ => .int
abbrev wsX90 : List Cond := u_ws RX9 TX9 6
theorem nmX9 : ∀ a, a < 6 → ∀ b, b < 6 → a ≠ b → (TX9 a).2.1 ≠ (TX9 b).2.1 := by decide +kernel
theorem tyX9_ok : ∀ k, k < 6 → parseFieldDescriptor (TX9 k).2.2.1 = some (tyX9 k) := by decide +kernel
abbrev cX9_init : ByteArray := prog_6_method_1_code
def yX9_init : MethodName := ⟨RX9, "<init>", "(JI)V"⟩
def dkwX9_init_1 : List UInt8 := [154, 0, 7, 4, 167, 0, 4, 3, 181, 0, 23, 177]
abbrev dktX9_init_1 : List UInt8 := dkwX9_init_1 ++ []
def dkwX9_init_0 : List UInt8 := [42, 183, 0, 3, 42, 16, 6, 188, 11, 181, 0, 9, 42, 31, 181, 0, 15, 42, 29, 181, 0, 19, 42, 29]
abbrev dktX9_init_0 : List UInt8 := dkwX9_init_0 ++ dktX9_init_1
theorem dksX9_init_0 : cX9_init.data.toList.drop 0 = dktX9_init_0 := by decide +kernel
theorem dksX9_init_1 : cX9_init.data.toList.drop 24 = dktX9_init_1 := dk_seg dksX9_init_0 24 rfl rfl
theorem dX9_init_0 : decode cX9_init 0 = .ok (.aload_n 0, 1) := dk_42 (dk_at dksX9_init_0 0 rfl rfl)
theorem dX9_init_1 : decode cX9_init 1 = .ok (.invokespecial 3, 3) := dk_183 0 3 (dk_at dksX9_init_0 1 rfl rfl)
theorem dX9_init_4 : decode cX9_init 4 = .ok (.aload_n 0, 1) := dk_42 (dk_at dksX9_init_0 4 rfl rfl)
theorem dX9_init_5 : decode cX9_init 5 = .ok (.bipush 6, 2) := dk_16 6 (dk_at dksX9_init_0 5 rfl rfl)
theorem dX9_init_7 : decode cX9_init 7 = .ok (.newarray .long, 2) := dk_188_11 (dk_at dksX9_init_0 7 rfl rfl)
theorem dX9_init_9 : decode cX9_init 9 = .ok (.putfield 9, 3) := dk_181 0 9 (dk_at dksX9_init_0 9 rfl rfl)
theorem dX9_init_12 : decode cX9_init 12 = .ok (.aload_n 0, 1) := dk_42 (dk_at dksX9_init_0 12 rfl rfl)
theorem dX9_init_13 : decode cX9_init 13 = .ok (.lload_n 1, 1) := dk_31 (dk_at dksX9_init_0 13 rfl rfl)
theorem dX9_init_14 : decode cX9_init 14 = .ok (.putfield 15, 3) := dk_181 0 15 (dk_at dksX9_init_0 14 rfl rfl)
theorem dX9_init_17 : decode cX9_init 17 = .ok (.aload_n 0, 1) := dk_42 (dk_at dksX9_init_0 17 rfl rfl)
theorem dX9_init_18 : decode cX9_init 18 = .ok (.iload_n 3, 1) := dk_29 (dk_at dksX9_init_0 18 rfl rfl)
theorem dX9_init_19 : decode cX9_init 19 = .ok (.putfield 19, 3) := dk_181 0 19 (dk_at dksX9_init_0 19 rfl rfl)
theorem dX9_init_22 : decode cX9_init 22 = .ok (.aload_n 0, 1) := dk_42 (dk_at dksX9_init_0 22 rfl rfl)
theorem dX9_init_23 : decode cX9_init 23 = .ok (.iload_n 3, 1) := dk_29 (dk_at dksX9_init_0 23 rfl rfl)
theorem dX9_init_24 : decode cX9_init 24 = .ok (.ifCond .ne 7, 3) := dk_154 0 7 (dk_at dksX9_init_1 0 rfl rfl)
theorem dX9_init_27 : decode cX9_init 27 = .ok (.iconst 1, 1) := dk_4 (dk_at dksX9_init_1 3 rfl rfl)
theorem dX9_init_28 : decode cX9_init 28 = .ok (.goto 4, 3) := dk_167 0 4 (dk_at dksX9_init_1 4 rfl rfl)
theorem dX9_init_31 : decode cX9_init 31 = .ok (.iconst 0, 1) := dk_3 (dk_at dksX9_init_1 7 rfl rfl)
theorem dX9_init_32 : decode cX9_init 32 = .ok (.putfield 23, 3) := dk_181 0 23 (dk_at dksX9_init_1 8 rfl rfl)
theorem dX9_init_35 : decode cX9_init 35 = .ok (.return_, 1) := dk_177 (dk_at dksX9_init_1 11 rfl rfl)
abbrev cX9_choice : ByteArray := prog_6_method_2_code
def yX9_choice : MethodName := ⟨RX9, "choice", "(J)I"⟩
def dkwX9_choice_1 : List UInt8 := [132, 3, 1, 167, 255, 232, 2, 172]
abbrev dktX9_choice_1 : List UInt8 := dkwX9_choice_1 ++ []
def dkwX9_choice_0 : List UInt8 := [3, 62, 29, 42, 180, 0, 26, 162, 0, 22, 42, 180, 0, 9, 29, 47, 31, 148, 154, 0, 5, 29, 172]
abbrev dktX9_choice_0 : List UInt8 := dkwX9_choice_0 ++ dktX9_choice_1
theorem dksX9_choice_0 : cX9_choice.data.toList.drop 0 = dktX9_choice_0 := by decide +kernel
theorem dksX9_choice_1 : cX9_choice.data.toList.drop 23 = dktX9_choice_1 := dk_seg dksX9_choice_0 23 rfl rfl
theorem dX9_choice_0 : decode cX9_choice 0 = .ok (.iconst 0, 1) := dk_3 (dk_at dksX9_choice_0 0 rfl rfl)
theorem dX9_choice_1 : decode cX9_choice 1 = .ok (.istore_n 3, 1) := dk_62 (dk_at dksX9_choice_0 1 rfl rfl)
theorem dX9_choice_2 : decode cX9_choice 2 = .ok (.iload_n 3, 1) := dk_29 (dk_at dksX9_choice_0 2 rfl rfl)
theorem dX9_choice_3 : decode cX9_choice 3 = .ok (.aload_n 0, 1) := dk_42 (dk_at dksX9_choice_0 3 rfl rfl)
theorem dX9_choice_4 : decode cX9_choice 4 = .ok (.getfield 26, 3) := dk_180 0 26 (dk_at dksX9_choice_0 4 rfl rfl)
theorem dX9_choice_7 : decode cX9_choice 7 = .ok (.if_icmp .ge 22, 3) := dk_162 0 22 (dk_at dksX9_choice_0 7 rfl rfl)
theorem dX9_choice_10 : decode cX9_choice 10 = .ok (.aload_n 0, 1) := dk_42 (dk_at dksX9_choice_0 10 rfl rfl)
theorem dX9_choice_11 : decode cX9_choice 11 = .ok (.getfield 9, 3) := dk_180 0 9 (dk_at dksX9_choice_0 11 rfl rfl)
theorem dX9_choice_14 : decode cX9_choice 14 = .ok (.iload_n 3, 1) := dk_29 (dk_at dksX9_choice_0 14 rfl rfl)
theorem dX9_choice_15 : decode cX9_choice 15 = .ok (.laload, 1) := dk_47 (dk_at dksX9_choice_0 15 rfl rfl)
theorem dX9_choice_16 : decode cX9_choice 16 = .ok (.lload_n 1, 1) := dk_31 (dk_at dksX9_choice_0 16 rfl rfl)
theorem dX9_choice_17 : decode cX9_choice 17 = .ok (.lcmp, 1) := dk_148 (dk_at dksX9_choice_0 17 rfl rfl)
theorem dX9_choice_18 : decode cX9_choice 18 = .ok (.ifCond .ne 5, 3) := dk_154 0 5 (dk_at dksX9_choice_0 18 rfl rfl)
theorem dX9_choice_21 : decode cX9_choice 21 = .ok (.iload_n 3, 1) := dk_29 (dk_at dksX9_choice_0 21 rfl rfl)
theorem dX9_choice_22 : decode cX9_choice 22 = .ok (.ireturn, 1) := dk_172 (dk_at dksX9_choice_0 22 rfl rfl)
theorem dX9_choice_23 : decode cX9_choice 23 = .ok (.iinc 3 1, 3) := dk_132 3 1 (dk_at dksX9_choice_1 0 rfl rfl)
theorem dX9_choice_26 : decode cX9_choice 26 = .ok (.goto (-24), 3) := dk_167 255 232 (dk_at dksX9_choice_1 3 rfl rfl)
theorem dX9_choice_29 : decode cX9_choice 29 = .ok (.iconst (-1), 1) := dk_2 (dk_at dksX9_choice_1 6 rfl rfl)
theorem dX9_choice_30 : decode cX9_choice 30 = .ok (.ireturn, 1) := dk_172 (dk_at dksX9_choice_1 7 rfl rfl)
abbrev cX9_isLike : ByteArray := prog_6_method_4_code
def yX9_isLike : MethodName := ⟨RX9, "isLike", "(LCoverHouse$Fact;)Z"⟩
def dkwX9_isLike_4 : List UInt8 := [172]
abbrev dktX9_isLike_4 : List UInt8 := dkwX9_isLike_4 ++ []
def dkwX9_isLike_3 : List UInt8 := [180, 0, 9, 28, 47, 43, 180, 0, 9, 28, 47, 148, 153, 0, 5, 3, 172, 132, 2, 1, 167, 255, 227, 4]
abbrev dktX9_isLike_3 : List UInt8 := dkwX9_isLike_3 ++ dktX9_isLike_4
def dkwX9_isLike_2 : List UInt8 := [180, 0, 23, 43, 180, 0, 23, 159, 0, 5, 3, 172, 3, 61, 28, 42, 180, 0, 26, 162, 0, 27, 42]
abbrev dktX9_isLike_2 : List UInt8 := dkwX9_isLike_2 ++ dktX9_isLike_3
def dkwX9_isLike_1 : List UInt8 := [180, 0, 26, 43, 180, 0, 26, 160, 0, 25, 42, 180, 0, 29, 43, 180, 0, 29, 160, 0, 14, 42]
abbrev dktX9_isLike_1 : List UInt8 := dkwX9_isLike_1 ++ dktX9_isLike_2
def dkwX9_isLike_0 : List UInt8 := [42, 180, 0, 15, 43, 180, 0, 15, 148, 154, 0, 47, 42, 180, 0, 19, 43, 180, 0, 19, 160, 0, 36, 42]
abbrev dktX9_isLike_0 : List UInt8 := dkwX9_isLike_0 ++ dktX9_isLike_1
theorem dksX9_isLike_0 : cX9_isLike.data.toList.drop 0 = dktX9_isLike_0 := by decide +kernel
theorem dksX9_isLike_1 : cX9_isLike.data.toList.drop 24 = dktX9_isLike_1 := dk_seg dksX9_isLike_0 24 rfl rfl
theorem dksX9_isLike_2 : cX9_isLike.data.toList.drop 46 = dktX9_isLike_2 := dk_seg dksX9_isLike_1 22 rfl rfl
theorem dksX9_isLike_3 : cX9_isLike.data.toList.drop 69 = dktX9_isLike_3 := dk_seg dksX9_isLike_2 23 rfl rfl
theorem dksX9_isLike_4 : cX9_isLike.data.toList.drop 93 = dktX9_isLike_4 := dk_seg dksX9_isLike_3 24 rfl rfl
theorem dX9_isLike_0 : decode cX9_isLike 0 = .ok (.aload_n 0, 1) := dk_42 (dk_at dksX9_isLike_0 0 rfl rfl)
theorem dX9_isLike_1 : decode cX9_isLike 1 = .ok (.getfield 15, 3) := dk_180 0 15 (dk_at dksX9_isLike_0 1 rfl rfl)
theorem dX9_isLike_4 : decode cX9_isLike 4 = .ok (.aload_n 1, 1) := dk_43 (dk_at dksX9_isLike_0 4 rfl rfl)
theorem dX9_isLike_5 : decode cX9_isLike 5 = .ok (.getfield 15, 3) := dk_180 0 15 (dk_at dksX9_isLike_0 5 rfl rfl)
theorem dX9_isLike_8 : decode cX9_isLike 8 = .ok (.lcmp, 1) := dk_148 (dk_at dksX9_isLike_0 8 rfl rfl)
theorem dX9_isLike_9 : decode cX9_isLike 9 = .ok (.ifCond .ne 47, 3) := dk_154 0 47 (dk_at dksX9_isLike_0 9 rfl rfl)
theorem dX9_isLike_12 : decode cX9_isLike 12 = .ok (.aload_n 0, 1) := dk_42 (dk_at dksX9_isLike_0 12 rfl rfl)
theorem dX9_isLike_13 : decode cX9_isLike 13 = .ok (.getfield 19, 3) := dk_180 0 19 (dk_at dksX9_isLike_0 13 rfl rfl)
theorem dX9_isLike_16 : decode cX9_isLike 16 = .ok (.aload_n 1, 1) := dk_43 (dk_at dksX9_isLike_0 16 rfl rfl)
theorem dX9_isLike_17 : decode cX9_isLike 17 = .ok (.getfield 19, 3) := dk_180 0 19 (dk_at dksX9_isLike_0 17 rfl rfl)
theorem dX9_isLike_20 : decode cX9_isLike 20 = .ok (.if_icmp .ne 36, 3) := dk_160 0 36 (dk_at dksX9_isLike_0 20 rfl rfl)
theorem dX9_isLike_23 : decode cX9_isLike 23 = .ok (.aload_n 0, 1) := dk_42 (dk_at dksX9_isLike_0 23 rfl rfl)
theorem dX9_isLike_24 : decode cX9_isLike 24 = .ok (.getfield 26, 3) := dk_180 0 26 (dk_at dksX9_isLike_1 0 rfl rfl)
theorem dX9_isLike_27 : decode cX9_isLike 27 = .ok (.aload_n 1, 1) := dk_43 (dk_at dksX9_isLike_1 3 rfl rfl)
theorem dX9_isLike_28 : decode cX9_isLike 28 = .ok (.getfield 26, 3) := dk_180 0 26 (dk_at dksX9_isLike_1 4 rfl rfl)
theorem dX9_isLike_31 : decode cX9_isLike 31 = .ok (.if_icmp .ne 25, 3) := dk_160 0 25 (dk_at dksX9_isLike_1 7 rfl rfl)
theorem dX9_isLike_34 : decode cX9_isLike 34 = .ok (.aload_n 0, 1) := dk_42 (dk_at dksX9_isLike_1 10 rfl rfl)
theorem dX9_isLike_35 : decode cX9_isLike 35 = .ok (.getfield 29, 3) := dk_180 0 29 (dk_at dksX9_isLike_1 11 rfl rfl)
theorem dX9_isLike_38 : decode cX9_isLike 38 = .ok (.aload_n 1, 1) := dk_43 (dk_at dksX9_isLike_1 14 rfl rfl)
theorem dX9_isLike_39 : decode cX9_isLike 39 = .ok (.getfield 29, 3) := dk_180 0 29 (dk_at dksX9_isLike_1 15 rfl rfl)
theorem dX9_isLike_42 : decode cX9_isLike 42 = .ok (.if_icmp .ne 14, 3) := dk_160 0 14 (dk_at dksX9_isLike_1 18 rfl rfl)
theorem dX9_isLike_45 : decode cX9_isLike 45 = .ok (.aload_n 0, 1) := dk_42 (dk_at dksX9_isLike_1 21 rfl rfl)
theorem dX9_isLike_46 : decode cX9_isLike 46 = .ok (.getfield 23, 3) := dk_180 0 23 (dk_at dksX9_isLike_2 0 rfl rfl)
theorem dX9_isLike_49 : decode cX9_isLike 49 = .ok (.aload_n 1, 1) := dk_43 (dk_at dksX9_isLike_2 3 rfl rfl)
theorem dX9_isLike_50 : decode cX9_isLike 50 = .ok (.getfield 23, 3) := dk_180 0 23 (dk_at dksX9_isLike_2 4 rfl rfl)
theorem dX9_isLike_53 : decode cX9_isLike 53 = .ok (.if_icmp .eq 5, 3) := dk_159 0 5 (dk_at dksX9_isLike_2 7 rfl rfl)
theorem dX9_isLike_56 : decode cX9_isLike 56 = .ok (.iconst 0, 1) := dk_3 (dk_at dksX9_isLike_2 10 rfl rfl)
theorem dX9_isLike_57 : decode cX9_isLike 57 = .ok (.ireturn, 1) := dk_172 (dk_at dksX9_isLike_2 11 rfl rfl)
theorem dX9_isLike_58 : decode cX9_isLike 58 = .ok (.iconst 0, 1) := dk_3 (dk_at dksX9_isLike_2 12 rfl rfl)
theorem dX9_isLike_59 : decode cX9_isLike 59 = .ok (.istore_n 2, 1) := dk_61 (dk_at dksX9_isLike_2 13 rfl rfl)
theorem dX9_isLike_60 : decode cX9_isLike 60 = .ok (.iload_n 2, 1) := dk_28 (dk_at dksX9_isLike_2 14 rfl rfl)
theorem dX9_isLike_61 : decode cX9_isLike 61 = .ok (.aload_n 0, 1) := dk_42 (dk_at dksX9_isLike_2 15 rfl rfl)
theorem dX9_isLike_62 : decode cX9_isLike 62 = .ok (.getfield 26, 3) := dk_180 0 26 (dk_at dksX9_isLike_2 16 rfl rfl)
theorem dX9_isLike_65 : decode cX9_isLike 65 = .ok (.if_icmp .ge 27, 3) := dk_162 0 27 (dk_at dksX9_isLike_2 19 rfl rfl)
theorem dX9_isLike_68 : decode cX9_isLike 68 = .ok (.aload_n 0, 1) := dk_42 (dk_at dksX9_isLike_2 22 rfl rfl)
theorem dX9_isLike_69 : decode cX9_isLike 69 = .ok (.getfield 9, 3) := dk_180 0 9 (dk_at dksX9_isLike_3 0 rfl rfl)
theorem dX9_isLike_72 : decode cX9_isLike 72 = .ok (.iload_n 2, 1) := dk_28 (dk_at dksX9_isLike_3 3 rfl rfl)
theorem dX9_isLike_73 : decode cX9_isLike 73 = .ok (.laload, 1) := dk_47 (dk_at dksX9_isLike_3 4 rfl rfl)
theorem dX9_isLike_74 : decode cX9_isLike 74 = .ok (.aload_n 1, 1) := dk_43 (dk_at dksX9_isLike_3 5 rfl rfl)
theorem dX9_isLike_75 : decode cX9_isLike 75 = .ok (.getfield 9, 3) := dk_180 0 9 (dk_at dksX9_isLike_3 6 rfl rfl)
theorem dX9_isLike_78 : decode cX9_isLike 78 = .ok (.iload_n 2, 1) := dk_28 (dk_at dksX9_isLike_3 9 rfl rfl)
theorem dX9_isLike_79 : decode cX9_isLike 79 = .ok (.laload, 1) := dk_47 (dk_at dksX9_isLike_3 10 rfl rfl)
theorem dX9_isLike_80 : decode cX9_isLike 80 = .ok (.lcmp, 1) := dk_148 (dk_at dksX9_isLike_3 11 rfl rfl)
theorem dX9_isLike_81 : decode cX9_isLike 81 = .ok (.ifCond .eq 5, 3) := dk_153 0 5 (dk_at dksX9_isLike_3 12 rfl rfl)
theorem dX9_isLike_84 : decode cX9_isLike 84 = .ok (.iconst 0, 1) := dk_3 (dk_at dksX9_isLike_3 15 rfl rfl)
theorem dX9_isLike_85 : decode cX9_isLike 85 = .ok (.ireturn, 1) := dk_172 (dk_at dksX9_isLike_3 16 rfl rfl)
theorem dX9_isLike_86 : decode cX9_isLike 86 = .ok (.iinc 2 1, 3) := dk_132 2 1 (dk_at dksX9_isLike_3 17 rfl rfl)
theorem dX9_isLike_89 : decode cX9_isLike 89 = .ok (.goto (-29), 3) := dk_167 255 227 (dk_at dksX9_isLike_3 20 rfl rfl)
theorem dX9_isLike_92 : decode cX9_isLike 92 = .ok (.iconst 1, 1) := dk_4 (dk_at dksX9_isLike_3 23 rfl rfl)
theorem dX9_isLike_93 : decode cX9_isLike 93 = .ok (.ireturn, 1) := dk_172 (dk_at dksX9_isLike_4 0 rfl rfl)
abbrev cX9_has : ByteArray := prog_6_method_3_code
def yX9_has : MethodName := ⟨RX9, "has", "(I)Z"⟩
def dkwX9_has_0 : List UInt8 := [27, 42, 180, 0, 29, 161, 0, 15, 27, 42, 180, 0, 23, 163, 0, 7, 4, 167, 0, 4, 3, 172]
abbrev dktX9_has_0 : List UInt8 := dkwX9_has_0 ++ []
theorem dksX9_has_0 : cX9_has.data.toList.drop 0 = dktX9_has_0 := by decide +kernel
theorem dX9_has_0 : decode cX9_has 0 = .ok (.iload_n 1, 1) := dk_27 (dk_at dksX9_has_0 0 rfl rfl)
theorem dX9_has_1 : decode cX9_has 1 = .ok (.aload_n 0, 1) := dk_42 (dk_at dksX9_has_0 1 rfl rfl)
theorem dX9_has_2 : decode cX9_has 2 = .ok (.getfield 29, 3) := dk_180 0 29 (dk_at dksX9_has_0 2 rfl rfl)
theorem dX9_has_5 : decode cX9_has 5 = .ok (.if_icmp .lt 15, 3) := dk_161 0 15 (dk_at dksX9_has_0 5 rfl rfl)
theorem dX9_has_8 : decode cX9_has 8 = .ok (.iload_n 1, 1) := dk_27 (dk_at dksX9_has_0 8 rfl rfl)
theorem dX9_has_9 : decode cX9_has 9 = .ok (.aload_n 0, 1) := dk_42 (dk_at dksX9_has_0 9 rfl rfl)
theorem dX9_has_10 : decode cX9_has 10 = .ok (.getfield 23, 3) := dk_180 0 23 (dk_at dksX9_has_0 10 rfl rfl)
theorem dX9_has_13 : decode cX9_has 13 = .ok (.if_icmp .gt 7, 3) := dk_163 0 7 (dk_at dksX9_has_0 13 rfl rfl)
theorem dX9_has_16 : decode cX9_has 16 = .ok (.iconst 1, 1) := dk_4 (dk_at dksX9_has_0 16 rfl rfl)
theorem dX9_has_17 : decode cX9_has 17 = .ok (.goto 4, 3) := dk_167 0 4 (dk_at dksX9_has_0 17 rfl rfl)
theorem dX9_has_20 : decode cX9_has 20 = .ok (.iconst 0, 1) := dk_3 (dk_at dksX9_has_0 20 rfl rfl)
theorem dX9_has_21 : decode cX9_has 21 = .ok (.ireturn, 1) := dk_172 (dk_at dksX9_has_0 21 rfl rfl)
theorem q152 : (Jvm.Cond.initialized "CoverHouse$Fact") ∈ lw_all := lw_g (lw_at lw_m1 25 rfl) rfl
theorem q362 : (Jvm.Cond.selects "CoverHouse$Fact" ({ cls := "java/lang/Object", name := "getClass", desc := "()Ljava/lang/Class;" } : Jvm.MethodName) ({ cls := "java/lang/Object", name := "getClass", desc := "()Ljava/lang/Class;" } : Jvm.MethodName)) ∈ lw_all := lw_g (lw_at lw_m1 235 rfl) rfl
theorem q842 : (Jvm.Cond.instantiable "CoverHouse$Fact" (6 : Nat)) ∈ lw_all := lw_g (lw_at lw_m3 235 rfl) rfl
theorem q844 : (Jvm.Cond.instanceMethod ({ cls := "CoverHouse$Fact", name := "<init>", desc := "(JI)V" } : Jvm.MethodName)) ∈ lw_all := lw_g (lw_at lw_m3 237 rfl) rfl
theorem q845 : (Jvm.Cond.code ({ cls := "CoverHouse$Fact", name := "<init>", desc := "(JI)V" } : Jvm.MethodName) prog_6_method_1_code (4 : Nat) (Option.none : Option Jvm.ClassFile.FieldType)) ∈ lw_all := lw_g (lw_at lw_m3 238 rfl) rfl
theorem q846 : (Jvm.Cond.methodLink "CoverHouse$Fact" (3 : Nat) ({ cls := "java/lang/Object", name := "<init>", desc := "()V" } : Jvm.MethodName)) ∈ lw_all := lw_g (lw_at lw_m3 239 rfl) rfl
theorem q847 : (Jvm.Cond.fieldLink "CoverHouse$Fact" (15 : Nat) "CoverHouse$Fact" "name" "J") ∈ lw_all := lw_g (lw_at lw_m4 0 rfl) rfl
theorem q849 : (Jvm.Cond.fieldLink "CoverHouse$Fact" (19 : Nat) "CoverHouse$Fact" "kind" "I") ∈ lw_all := lw_g (lw_at lw_m4 2 rfl) rfl
theorem q853 : (Jvm.Cond.fieldLink "CoverHouse$Fact" (9 : Nat) "CoverHouse$Fact" "choices" "[J") ∈ lw_all := lw_g (lw_at lw_m4 6 rfl) rfl
theorem q855 : (Jvm.Cond.fieldLink "CoverHouse$Fact" (26 : Nat) "CoverHouse$Fact" "many" "I") ∈ lw_all := lw_g (lw_at lw_m4 8 rfl) rfl
theorem q859 : (Jvm.Cond.fieldLink "CoverHouse$Fact" (29 : Nat) "CoverHouse$Fact" "low" "I") ∈ lw_all := lw_g (lw_at lw_m4 12 rfl) rfl
theorem q862 : (Jvm.Cond.fieldLink "CoverHouse$Fact" (23 : Nat) "CoverHouse$Fact" "high" "I") ∈ lw_all := lw_g (lw_at lw_m4 15 rfl) rfl
theorem q866 : (Jvm.Cond.laysFinal "CoverHouse$Fact" "CoverHouse$Fact" "name" "J") ∈ lw_all := lw_g (lw_at lw_m4 19 rfl) rfl
theorem q867 : (Jvm.Cond.soleField "CoverHouse$Fact" "name") ∈ lw_all := lw_g (lw_at lw_m4 20 rfl) rfl
theorem q868 : (Jvm.Cond.laysFinal "CoverHouse$Fact" "CoverHouse$Fact" "kind" "I") ∈ lw_all := lw_g (lw_at lw_m4 21 rfl) rfl
theorem q869 : (Jvm.Cond.soleField "CoverHouse$Fact" "kind") ∈ lw_all := lw_g (lw_at lw_m4 22 rfl) rfl
theorem q870 : (Jvm.Cond.laysFinal "CoverHouse$Fact" "CoverHouse$Fact" "choices" "[J") ∈ lw_all := lw_g (lw_at lw_m4 23 rfl) rfl
theorem q871 : (Jvm.Cond.soleField "CoverHouse$Fact" "choices") ∈ lw_all := lw_g (lw_at lw_m4 24 rfl) rfl
theorem q872 : (Jvm.Cond.lays "CoverHouse$Fact" "CoverHouse$Fact" "many" "I") ∈ lw_all := lw_g (lw_at lw_m4 25 rfl) rfl
theorem q873 : (Jvm.Cond.soleField "CoverHouse$Fact" "many") ∈ lw_all := lw_g (lw_at lw_m4 26 rfl) rfl
theorem q874 : (Jvm.Cond.lays "CoverHouse$Fact" "CoverHouse$Fact" "low" "I") ∈ lw_all := lw_g (lw_at lw_m4 27 rfl) rfl
theorem q875 : (Jvm.Cond.soleField "CoverHouse$Fact" "low") ∈ lw_all := lw_g (lw_at lw_m4 28 rfl) rfl
theorem q876 : (Jvm.Cond.lays "CoverHouse$Fact" "CoverHouse$Fact" "high" "I") ∈ lw_all := lw_g (lw_at lw_m4 29 rfl) rfl
theorem q877 : (Jvm.Cond.soleField "CoverHouse$Fact" "high") ∈ lw_all := lw_g (lw_at lw_m4 30 rfl) rfl
theorem q878 : (Jvm.Cond.superclass "CoverHouse$Fact" "java/lang/Object") ∈ lw_all := lw_g (lw_at lw_m4 31 rfl) rfl
theorem q885 : (Jvm.Cond.instanceMethod ({ cls := "CoverHouse$Fact", name := "choice", desc := "(J)I" } : Jvm.MethodName)) ∈ lw_all := lw_g (lw_at lw_m4 38 rfl) rfl
theorem q886 : (Jvm.Cond.selects "CoverHouse$Fact" ({ cls := "CoverHouse$Fact", name := "choice", desc := "(J)I" } : Jvm.MethodName) ({ cls := "CoverHouse$Fact", name := "choice", desc := "(J)I" } : Jvm.MethodName)) ∈ lw_all := lw_g (lw_at lw_m4 39 rfl) rfl
theorem q887 : (Jvm.Cond.code ({ cls := "CoverHouse$Fact", name := "choice", desc := "(J)I" } : Jvm.MethodName) prog_6_method_2_code (4 : Nat) (Option.some Jvm.ClassFile.FieldType.int)) ∈ lw_all := lw_g (lw_at lw_m4 40 rfl) rfl
theorem q1356 : (Jvm.Cond.instanceMethod ({ cls := "CoverHouse$Fact", name := "isLike", desc := "(LCoverHouse$Fact;)Z" } : Jvm.MethodName)) ∈ lw_all := lw_g (lw_at lw_m6 29 rfl) rfl
theorem q1357 : (Jvm.Cond.selects "CoverHouse$Fact" ({ cls := "CoverHouse$Fact", name := "isLike", desc := "(LCoverHouse$Fact;)Z" } : Jvm.MethodName) ({ cls := "CoverHouse$Fact", name := "isLike", desc := "(LCoverHouse$Fact;)Z" } : Jvm.MethodName)) ∈ lw_all := lw_g (lw_at lw_m6 30 rfl) rfl
theorem q1358 : (Jvm.Cond.code ({ cls := "CoverHouse$Fact", name := "isLike", desc := "(LCoverHouse$Fact;)Z" } : Jvm.MethodName) prog_6_method_4_code (3 : Nat) (Option.some Jvm.ClassFile.FieldType.boolean)) ∈ lw_all := lw_g (lw_at lw_m6 31 rfl) rfl
theorem q1475 : (Jvm.Cond.instanceMethod ({ cls := "CoverHouse$Fact", name := "has", desc := "(I)Z" } : Jvm.MethodName)) ∈ lw_all := lw_g (lw_at lw_m6 148 rfl) rfl
theorem q1476 : (Jvm.Cond.selects "CoverHouse$Fact" ({ cls := "CoverHouse$Fact", name := "has", desc := "(I)Z" } : Jvm.MethodName) ({ cls := "CoverHouse$Fact", name := "has", desc := "(I)Z" } : Jvm.MethodName)) ∈ lw_all := lw_g (lw_at lw_m6 149 rfl) rfl
theorem q1477 : (Jvm.Cond.code ({ cls := "CoverHouse$Fact", name := "has", desc := "(I)Z" } : Jvm.MethodName) prog_6_method_3_code (2 : Nat) (Option.some Jvm.ClassFile.FieldType.boolean)) ∈ lw_all := lw_g (lw_at lw_m6 150 rfl) rfl
theorem q2699 : (Jvm.Cond.castable "CoverHouse$Fact" "java/lang/Object") ∈ lw_tbl := lw_at lw_m11 172 rfl
theorem in_X9 : ∀ w ∈ wsX90, w ∈ lw_all := lw_in wsX90 [866, 868, 870, 872, 874, 876] (by decide +kernel) (by decide +kernel)

/-! CoverHouse$Cond -/
set_option maxRecDepth 100000
def RX10 : String := "CoverHouse$Cond"
abbrev cX10_init : ByteArray := prog_4_method_1_code
def yX10_init : MethodName := ⟨RX10, "<init>", "()V"⟩
theorem dX10_init_0 : decode cX10_init 0 = .ok (.aload_n 0, 1) := by decide +kernel
theorem dX10_init_1 : decode cX10_init 1 = .ok (.invokespecial 1, 3) := by decide +kernel
theorem dX10_init_4 : decode cX10_init 4 = .ok (.return_, 1) := by decide +kernel
abbrev cX10_part : ByteArray := prog_4_method_3_code
def yX10_part : MethodName := ⟨RX10, "part", "(ILCoverHouse$Starts;)V"⟩
theorem dX10_part_0 : decode cX10_part 0 = .ok (.return_, 1) := by decide +kernel
theorem q153 : (Jvm.Cond.initialized "CoverHouse$Cond") ∈ lw_all := lw_g (lw_at lw_m1 26 rfl) rfl
theorem q937 : (Jvm.Cond.instanceMethod ({ cls := "CoverHouse$Cond", name := "<init>", desc := "()V" } : Jvm.MethodName)) ∈ lw_all := lw_g (lw_at lw_m4 90 rfl) rfl
theorem q938 : (Jvm.Cond.code ({ cls := "CoverHouse$Cond", name := "<init>", desc := "()V" } : Jvm.MethodName) prog_4_method_1_code (1 : Nat) (Option.none : Option Jvm.ClassFile.FieldType)) ∈ lw_all := lw_g (lw_at lw_m4 91 rfl) rfl
theorem q939 : (Jvm.Cond.methodLink "CoverHouse$Cond" (1 : Nat) ({ cls := "java/lang/Object", name := "<init>", desc := "()V" } : Jvm.MethodName)) ∈ lw_all := lw_g (lw_at lw_m4 92 rfl) rfl
theorem q1152 : (Jvm.Cond.instanceMethod ({ cls := "CoverHouse$Cond", name := "part", desc := "(ILCoverHouse$Starts;)V" } : Jvm.MethodName)) ∈ lw_all := lw_g (lw_at lw_m5 65 rfl) rfl
theorem q1153 : (Jvm.Cond.sameMethod "CoverHouse$Cond" "CoverHouse$Cond" "part" "(ILCoverHouse$Starts;)V") ∈ lw_all := lw_g (lw_at lw_m5 66 rfl) rfl
theorem q1180 : (Jvm.Cond.code ({ cls := "CoverHouse$Cond", name := "part", desc := "(ILCoverHouse$Starts;)V" } : Jvm.MethodName) prog_4_method_3_code (3 : Nat) (Option.none : Option Jvm.ClassFile.FieldType)) ∈ lw_all := lw_g (lw_at lw_m5 93 rfl) rfl
theorem q1214 : (Jvm.Cond.declares ({ cls := "CoverHouse$Cond", name := "isTrue", desc := "(LCoverHouse$Full;)Z" } : Jvm.MethodName)) ∈ lw_tbl := lw_at lw_m5 127 rfl
theorem q1215 : (Jvm.Cond.sameMethod "CoverHouse$Cond" "CoverHouse$Cond" "isTrue" "(LCoverHouse$Full;)Z") ∈ lw_all := lw_g (lw_at lw_m5 128 rfl) rfl

/-! CoverHouse$Not -/
set_option maxRecDepth 100000
def RX11 : String := "CoverHouse$Not"
def TX11 : u_T := fun k => match k with
  | _ => ("CoverHouse$Not", "of", "LCoverHouse$Cond;", true)
def tyX11 : Nat → FieldType := fun k => match k with
  | _ => .object "CoverHouse$Cond"
abbrev wsX110 : List Cond := u_ws RX11 TX11 1
theorem nmX11 : ∀ a, a < 1 → ∀ b, b < 1 → a ≠ b → (TX11 a).2.1 ≠ (TX11 b).2.1 := by decide +kernel
theorem tyX11_ok : ∀ k, k < 1 → parseFieldDescriptor (TX11 k).2.2.1 = some (tyX11 k) := by decide +kernel
abbrev cX11_init : ByteArray := prog_15_method_1_code
def yX11_init : MethodName := ⟨RX11, "<init>", "(LCoverHouse$Cond;)V"⟩
def dkwX11_init_0 : List UInt8 := [42, 183, 0, 1, 42, 43, 181, 0, 7, 177]
abbrev dktX11_init_0 : List UInt8 := dkwX11_init_0 ++ []
theorem dksX11_init_0 : cX11_init.data.toList.drop 0 = dktX11_init_0 := by decide +kernel
theorem dX11_init_0 : decode cX11_init 0 = .ok (.aload_n 0, 1) := dk_42 (dk_at dksX11_init_0 0 rfl rfl)
theorem dX11_init_1 : decode cX11_init 1 = .ok (.invokespecial 1, 3) := dk_183 0 1 (dk_at dksX11_init_0 1 rfl rfl)
theorem dX11_init_4 : decode cX11_init 4 = .ok (.aload_n 0, 1) := dk_42 (dk_at dksX11_init_0 4 rfl rfl)
theorem dX11_init_5 : decode cX11_init 5 = .ok (.aload_n 1, 1) := dk_43 (dk_at dksX11_init_0 5 rfl rfl)
theorem dX11_init_6 : decode cX11_init 6 = .ok (.putfield 7, 3) := dk_181 0 7 (dk_at dksX11_init_0 6 rfl rfl)
theorem dX11_init_9 : decode cX11_init 9 = .ok (.return_, 1) := dk_177 (dk_at dksX11_init_0 9 rfl rfl)
abbrev cX11_part : ByteArray := prog_15_method_3_code
def yX11_part : MethodName := ⟨RX11, "part", "(ILCoverHouse$Starts;)V"⟩
def dkwX11_part_0 : List UInt8 := [42, 180, 0, 7, 27, 44, 182, 0, 17, 177]
abbrev dktX11_part_0 : List UInt8 := dkwX11_part_0 ++ []
theorem dksX11_part_0 : cX11_part.data.toList.drop 0 = dktX11_part_0 := by decide +kernel
theorem dX11_part_0 : decode cX11_part 0 = .ok (.aload_n 0, 1) := dk_42 (dk_at dksX11_part_0 0 rfl rfl)
theorem dX11_part_1 : decode cX11_part 1 = .ok (.getfield 7, 3) := dk_180 0 7 (dk_at dksX11_part_0 1 rfl rfl)
theorem dX11_part_4 : decode cX11_part 4 = .ok (.iload_n 1, 1) := dk_27 (dk_at dksX11_part_0 4 rfl rfl)
theorem dX11_part_5 : decode cX11_part 5 = .ok (.aload_n 2, 1) := dk_44 (dk_at dksX11_part_0 5 rfl rfl)
theorem dX11_part_6 : decode cX11_part 6 = .ok (.invokevirtual 17, 3) := dk_182 0 17 (dk_at dksX11_part_0 6 rfl rfl)
theorem dX11_part_9 : decode cX11_part 9 = .ok (.return_, 1) := dk_177 (dk_at dksX11_part_0 9 rfl rfl)
abbrev cX11_isTrue : ByteArray := prog_15_method_2_code
def yX11_isTrue : MethodName := ⟨RX11, "isTrue", "(LCoverHouse$Full;)Z"⟩
def dkwX11_isTrue_0 : List UInt8 := [42, 180, 0, 7, 43, 182, 0, 13, 154, 0, 7, 4, 167, 0, 4, 3, 172]
abbrev dktX11_isTrue_0 : List UInt8 := dkwX11_isTrue_0 ++ []
theorem dksX11_isTrue_0 : cX11_isTrue.data.toList.drop 0 = dktX11_isTrue_0 := by decide +kernel
theorem dX11_isTrue_0 : decode cX11_isTrue 0 = .ok (.aload_n 0, 1) := dk_42 (dk_at dksX11_isTrue_0 0 rfl rfl)
theorem dX11_isTrue_1 : decode cX11_isTrue 1 = .ok (.getfield 7, 3) := dk_180 0 7 (dk_at dksX11_isTrue_0 1 rfl rfl)
theorem dX11_isTrue_4 : decode cX11_isTrue 4 = .ok (.aload_n 1, 1) := dk_43 (dk_at dksX11_isTrue_0 4 rfl rfl)
theorem dX11_isTrue_5 : decode cX11_isTrue 5 = .ok (.invokevirtual 13, 3) := dk_182 0 13 (dk_at dksX11_isTrue_0 5 rfl rfl)
theorem dX11_isTrue_8 : decode cX11_isTrue 8 = .ok (.ifCond .ne 7, 3) := dk_154 0 7 (dk_at dksX11_isTrue_0 8 rfl rfl)
theorem dX11_isTrue_11 : decode cX11_isTrue 11 = .ok (.iconst 1, 1) := dk_4 (dk_at dksX11_isTrue_0 11 rfl rfl)
theorem dX11_isTrue_12 : decode cX11_isTrue 12 = .ok (.goto 4, 3) := dk_167 0 4 (dk_at dksX11_isTrue_0 12 rfl rfl)
theorem dX11_isTrue_15 : decode cX11_isTrue 15 = .ok (.iconst 0, 1) := dk_3 (dk_at dksX11_isTrue_0 15 rfl rfl)
theorem dX11_isTrue_16 : decode cX11_isTrue 16 = .ok (.ireturn, 1) := dk_172 (dk_at dksX11_isTrue_0 16 rfl rfl)
theorem q154 : (Jvm.Cond.initialized "CoverHouse$Not") ∈ lw_all := lw_g (lw_at lw_m1 27 rfl) rfl
theorem q371 : (Jvm.Cond.selects "CoverHouse$Not" ({ cls := "java/lang/Object", name := "getClass", desc := "()Ljava/lang/Class;" } : Jvm.MethodName) ({ cls := "java/lang/Object", name := "getClass", desc := "()Ljava/lang/Class;" } : Jvm.MethodName)) ∈ lw_all := lw_g (lw_at lw_m2 4 rfl) rfl
theorem q932 : (Jvm.Cond.instantiable "CoverHouse$Not" (1 : Nat)) ∈ lw_all := lw_g (lw_at lw_m4 85 rfl) rfl
theorem q934 : (Jvm.Cond.instanceMethod ({ cls := "CoverHouse$Not", name := "<init>", desc := "(LCoverHouse$Cond;)V" } : Jvm.MethodName)) ∈ lw_all := lw_g (lw_at lw_m4 87 rfl) rfl
theorem q935 : (Jvm.Cond.code ({ cls := "CoverHouse$Not", name := "<init>", desc := "(LCoverHouse$Cond;)V" } : Jvm.MethodName) prog_15_method_1_code (2 : Nat) (Option.none : Option Jvm.ClassFile.FieldType)) ∈ lw_all := lw_g (lw_at lw_m4 88 rfl) rfl
theorem q936 : (Jvm.Cond.methodLinkNest "CoverHouse$Not" (1 : Nat) ({ cls := "CoverHouse$Cond", name := "<init>", desc := "()V" } : Jvm.MethodName) "CoverHouse") ∈ lw_tbl := lw_at lw_m4 89 rfl
theorem q940 : (Jvm.Cond.fieldLink "CoverHouse$Not" (7 : Nat) "CoverHouse$Not" "of" "LCoverHouse$Cond;") ∈ lw_all := lw_g (lw_at lw_m4 93 rfl) rfl
theorem q941 : (Jvm.Cond.laysFinal "CoverHouse$Not" "CoverHouse$Not" "of" "LCoverHouse$Cond;") ∈ lw_all := lw_g (lw_at lw_m4 94 rfl) rfl
theorem q942 : (Jvm.Cond.soleField "CoverHouse$Not" "of") ∈ lw_all := lw_g (lw_at lw_m4 95 rfl) rfl
theorem q943 : (Jvm.Cond.superclass "CoverHouse$Not" "CoverHouse$Cond") ∈ lw_all := lw_g (lw_at lw_m4 96 rfl) rfl
theorem q1174 : (Jvm.Cond.instanceMethod ({ cls := "CoverHouse$Not", name := "part", desc := "(ILCoverHouse$Starts;)V" } : Jvm.MethodName)) ∈ lw_all := lw_g (lw_at lw_m5 87 rfl) rfl
theorem q1175 : (Jvm.Cond.code ({ cls := "CoverHouse$Not", name := "part", desc := "(ILCoverHouse$Starts;)V" } : Jvm.MethodName) prog_15_method_3_code (3 : Nat) (Option.none : Option Jvm.ClassFile.FieldType)) ∈ lw_all := lw_g (lw_at lw_m5 88 rfl) rfl
theorem q1176 : (Jvm.Cond.methodLink "CoverHouse$Not" (17 : Nat) ({ cls := "CoverHouse$Cond", name := "part", desc := "(ILCoverHouse$Starts;)V" } : Jvm.MethodName)) ∈ lw_all := lw_g (lw_at lw_m5 89 rfl) rfl
theorem q1179 : (Jvm.Cond.selects "CoverHouse$Not" ({ cls := "CoverHouse$Cond", name := "part", desc := "(ILCoverHouse$Starts;)V" } : Jvm.MethodName) ({ cls := "CoverHouse$Not", name := "part", desc := "(ILCoverHouse$Starts;)V" } : Jvm.MethodName)) ∈ lw_all := lw_g (lw_at lw_m5 92 rfl) rfl
theorem q1248 : (Jvm.Cond.instanceMethod ({ cls := "CoverHouse$Not", name := "isTrue", desc := "(LCoverHouse$Full;)Z" } : Jvm.MethodName)) ∈ lw_all := lw_g (lw_at lw_m5 161 rfl) rfl
theorem q1249 : (Jvm.Cond.code ({ cls := "CoverHouse$Not", name := "isTrue", desc := "(LCoverHouse$Full;)Z" } : Jvm.MethodName) prog_15_method_2_code (2 : Nat) (Option.some Jvm.ClassFile.FieldType.boolean)) ∈ lw_all := lw_g (lw_at lw_m5 162 rfl) rfl
theorem q1250 : (Jvm.Cond.methodLink "CoverHouse$Not" (13 : Nat) ({ cls := "CoverHouse$Cond", name := "isTrue", desc := "(LCoverHouse$Full;)Z" } : Jvm.MethodName)) ∈ lw_all := lw_g (lw_at lw_m5 163 rfl) rfl
theorem q1253 : (Jvm.Cond.selects "CoverHouse$Not" ({ cls := "CoverHouse$Cond", name := "isTrue", desc := "(LCoverHouse$Full;)Z" } : Jvm.MethodName) ({ cls := "CoverHouse$Not", name := "isTrue", desc := "(LCoverHouse$Full;)Z" } : Jvm.MethodName)) ∈ lw_all := lw_g (lw_at lw_m5 166 rfl) rfl
theorem q2688 : (Jvm.Cond.castable "CoverHouse$Not" "CoverHouse$Cond") ∈ lw_tbl := lw_at lw_m11 161 rfl
theorem q2700 : (Jvm.Cond.castable "CoverHouse$Not" "java/lang/Object") ∈ lw_tbl := lw_at lw_m11 173 rfl
theorem in_X11 : ∀ w ∈ wsX110, w ∈ lw_all := lw_in wsX110 [941] (by decide +kernel) (by decide +kernel)

/-! CoverHouse$Meaning -/
set_option maxRecDepth 100000
def RX12 : String := "CoverHouse$Meaning"
def TX12 : u_T := fun k => match k with
  | _ => ("CoverHouse$Meaning", "number", "I", true)
def tyX12 : Nat → FieldType := fun k => match k with
  | _ => .int
abbrev wsX120 : List Cond := u_ws RX12 TX12 1
theorem nmX12 : ∀ a, a < 1 → ∀ b, b < 1 → a ≠ b → (TX12 a).2.1 ≠ (TX12 b).2.1 := by decide +kernel
theorem tyX12_ok : ∀ k, k < 1 → parseFieldDescriptor (TX12 k).2.2.1 = some (tyX12 k) := by decide +kernel
abbrev cX12_init : ByteArray := prog_13_method_1_code
def yX12_init : MethodName := ⟨RX12, "<init>", "(I)V"⟩
def dkwX12_init_0 : List UInt8 := [42, 183, 0, 1, 42, 27, 181, 0, 7, 177]
abbrev dktX12_init_0 : List UInt8 := dkwX12_init_0 ++ []
theorem dksX12_init_0 : cX12_init.data.toList.drop 0 = dktX12_init_0 := by decide +kernel
theorem dX12_init_0 : decode cX12_init 0 = .ok (.aload_n 0, 1) := dk_42 (dk_at dksX12_init_0 0 rfl rfl)
theorem dX12_init_1 : decode cX12_init 1 = .ok (.invokespecial 1, 3) := dk_183 0 1 (dk_at dksX12_init_0 1 rfl rfl)
theorem dX12_init_4 : decode cX12_init 4 = .ok (.aload_n 0, 1) := dk_42 (dk_at dksX12_init_0 4 rfl rfl)
theorem dX12_init_5 : decode cX12_init 5 = .ok (.iload_n 1, 1) := dk_27 (dk_at dksX12_init_0 5 rfl rfl)
theorem dX12_init_6 : decode cX12_init 6 = .ok (.putfield 7, 3) := dk_181 0 7 (dk_at dksX12_init_0 6 rfl rfl)
theorem dX12_init_9 : decode cX12_init 9 = .ok (.return_, 1) := dk_177 (dk_at dksX12_init_0 9 rfl rfl)
abbrev cX12_isTrue : ByteArray := prog_13_method_2_code
def yX12_isTrue : MethodName := ⟨RX12, "isTrue", "(LCoverHouse$Full;)Z"⟩
def dkwX12_isTrue_0 : List UInt8 := [43, 180, 0, 13, 42, 180, 0, 7, 51, 172]
abbrev dktX12_isTrue_0 : List UInt8 := dkwX12_isTrue_0 ++ []
theorem dksX12_isTrue_0 : cX12_isTrue.data.toList.drop 0 = dktX12_isTrue_0 := by decide +kernel
theorem dX12_isTrue_0 : decode cX12_isTrue 0 = .ok (.aload_n 1, 1) := dk_43 (dk_at dksX12_isTrue_0 0 rfl rfl)
theorem dX12_isTrue_1 : decode cX12_isTrue 1 = .ok (.getfield 13, 3) := dk_180 0 13 (dk_at dksX12_isTrue_0 1 rfl rfl)
theorem dX12_isTrue_4 : decode cX12_isTrue 4 = .ok (.aload_n 0, 1) := dk_42 (dk_at dksX12_isTrue_0 4 rfl rfl)
theorem dX12_isTrue_5 : decode cX12_isTrue 5 = .ok (.getfield 7, 3) := dk_180 0 7 (dk_at dksX12_isTrue_0 5 rfl rfl)
theorem dX12_isTrue_8 : decode cX12_isTrue 8 = .ok (.baload, 1) := dk_51 (dk_at dksX12_isTrue_0 8 rfl rfl)
theorem dX12_isTrue_9 : decode cX12_isTrue 9 = .ok (.ireturn, 1) := dk_172 (dk_at dksX12_isTrue_0 9 rfl rfl)
theorem q155 : (Jvm.Cond.initialized "CoverHouse$Meaning") ∈ lw_all := lw_g (lw_at lw_m1 28 rfl) rfl
theorem q248 : (Jvm.Cond.fieldLinkNest "CoverHouse$Meaning" (13 : Nat) "CoverHouse$Full" "meanings" "[Z" "CoverHouse") ∈ lw_tbl := lw_at lw_m1 121 rfl
theorem q369 : (Jvm.Cond.selects "CoverHouse$Meaning" ({ cls := "java/lang/Object", name := "getClass", desc := "()Ljava/lang/Class;" } : Jvm.MethodName) ({ cls := "java/lang/Object", name := "getClass", desc := "()Ljava/lang/Class;" } : Jvm.MethodName)) ∈ lw_all := lw_g (lw_at lw_m2 2 rfl) rfl
theorem q949 : (Jvm.Cond.instantiable "CoverHouse$Meaning" (1 : Nat)) ∈ lw_all := lw_g (lw_at lw_m4 102 rfl) rfl
theorem q951 : (Jvm.Cond.instanceMethod ({ cls := "CoverHouse$Meaning", name := "<init>", desc := "(I)V" } : Jvm.MethodName)) ∈ lw_all := lw_g (lw_at lw_m4 104 rfl) rfl
theorem q952 : (Jvm.Cond.code ({ cls := "CoverHouse$Meaning", name := "<init>", desc := "(I)V" } : Jvm.MethodName) prog_13_method_1_code (2 : Nat) (Option.none : Option Jvm.ClassFile.FieldType)) ∈ lw_all := lw_g (lw_at lw_m4 105 rfl) rfl
theorem q953 : (Jvm.Cond.methodLinkNest "CoverHouse$Meaning" (1 : Nat) ({ cls := "CoverHouse$Cond", name := "<init>", desc := "()V" } : Jvm.MethodName) "CoverHouse") ∈ lw_tbl := lw_at lw_m4 106 rfl
theorem q954 : (Jvm.Cond.fieldLink "CoverHouse$Meaning" (7 : Nat) "CoverHouse$Meaning" "number" "I") ∈ lw_all := lw_g (lw_at lw_m4 107 rfl) rfl
theorem q955 : (Jvm.Cond.laysFinal "CoverHouse$Meaning" "CoverHouse$Meaning" "number" "I") ∈ lw_all := lw_g (lw_at lw_m4 108 rfl) rfl
theorem q956 : (Jvm.Cond.soleField "CoverHouse$Meaning" "number") ∈ lw_all := lw_g (lw_at lw_m4 109 rfl) rfl
theorem q957 : (Jvm.Cond.superclass "CoverHouse$Meaning" "CoverHouse$Cond") ∈ lw_all := lw_g (lw_at lw_m4 110 rfl) rfl
theorem q1177 : (Jvm.Cond.selects "CoverHouse$Meaning" ({ cls := "CoverHouse$Cond", name := "part", desc := "(ILCoverHouse$Starts;)V" } : Jvm.MethodName) ({ cls := "CoverHouse$Cond", name := "part", desc := "(ILCoverHouse$Starts;)V" } : Jvm.MethodName)) ∈ lw_all := lw_g (lw_at lw_m5 90 rfl) rfl
theorem q1223 : (Jvm.Cond.instanceMethod ({ cls := "CoverHouse$Meaning", name := "isTrue", desc := "(LCoverHouse$Full;)Z" } : Jvm.MethodName)) ∈ lw_all := lw_g (lw_at lw_m5 136 rfl) rfl
theorem q1224 : (Jvm.Cond.code ({ cls := "CoverHouse$Meaning", name := "isTrue", desc := "(LCoverHouse$Full;)Z" } : Jvm.MethodName) prog_13_method_2_code (2 : Nat) (Option.some Jvm.ClassFile.FieldType.boolean)) ∈ lw_all := lw_g (lw_at lw_m5 137 rfl) rfl
theorem q1251 : (Jvm.Cond.selects "CoverHouse$Meaning" ({ cls := "CoverHouse$Cond", name := "isTrue", desc := "(LCoverHouse$Full;)Z" } : Jvm.MethodName) ({ cls := "CoverHouse$Meaning", name := "isTrue", desc := "(LCoverHouse$Full;)Z" } : Jvm.MethodName)) ∈ lw_all := lw_g (lw_at lw_m5 164 rfl) rfl
theorem q2686 : (Jvm.Cond.castable "CoverHouse$Meaning" "CoverHouse$Cond") ∈ lw_tbl := lw_at lw_m11 159 rfl
theorem q2701 : (Jvm.Cond.castable "CoverHouse$Meaning" "java/lang/Object") ∈ lw_tbl := lw_at lw_m11 174 rfl
theorem in_X12 : ∀ w ∈ wsX120, w ∈ lw_all := lw_in wsX120 [955] (by decide +kernel) (by decide +kernel)

/-! CoverHouse$Is -/
set_option maxRecDepth 100000
def RX13 : String := "CoverHouse$Is"
def TX13 : u_T := fun k => match k with
  | 0 => ("CoverHouse$Is", "fact", "I", true)
  | 1 => ("CoverHouse$Is", "value", "I", true)
  | _ => ("CoverHouse$Is", "not", "Z", true)
def tyX13 : Nat → FieldType := fun k => match k with
  | 0 => .int
  | 1 => .int
  | _ => .boolean
abbrev wsX130 : List Cond := u_ws RX13 TX13 3
theorem nmX13 : ∀ a, a < 3 → ∀ b, b < 3 → a ≠ b → (TX13 a).2.1 ≠ (TX13 b).2.1 := by decide +kernel
theorem tyX13_ok : ∀ k, k < 3 → parseFieldDescriptor (TX13 k).2.2.1 = some (tyX13 k) := by decide +kernel
abbrev cX13_init : ByteArray := prog_9_method_1_code
def yX13_init : MethodName := ⟨RX13, "<init>", "(IIZ)V"⟩
def dkwX13_init_0 : List UInt8 := [42, 183, 0, 1, 42, 27, 181, 0, 7, 42, 28, 181, 0, 13, 42, 29, 181, 0, 16, 177]
abbrev dktX13_init_0 : List UInt8 := dkwX13_init_0 ++ []
theorem dksX13_init_0 : cX13_init.data.toList.drop 0 = dktX13_init_0 := by decide +kernel
theorem dX13_init_0 : decode cX13_init 0 = .ok (.aload_n 0, 1) := dk_42 (dk_at dksX13_init_0 0 rfl rfl)
theorem dX13_init_1 : decode cX13_init 1 = .ok (.invokespecial 1, 3) := dk_183 0 1 (dk_at dksX13_init_0 1 rfl rfl)
theorem dX13_init_4 : decode cX13_init 4 = .ok (.aload_n 0, 1) := dk_42 (dk_at dksX13_init_0 4 rfl rfl)
theorem dX13_init_5 : decode cX13_init 5 = .ok (.iload_n 1, 1) := dk_27 (dk_at dksX13_init_0 5 rfl rfl)
theorem dX13_init_6 : decode cX13_init 6 = .ok (.putfield 7, 3) := dk_181 0 7 (dk_at dksX13_init_0 6 rfl rfl)
theorem dX13_init_9 : decode cX13_init 9 = .ok (.aload_n 0, 1) := dk_42 (dk_at dksX13_init_0 9 rfl rfl)
theorem dX13_init_10 : decode cX13_init 10 = .ok (.iload_n 2, 1) := dk_28 (dk_at dksX13_init_0 10 rfl rfl)
theorem dX13_init_11 : decode cX13_init 11 = .ok (.putfield 13, 3) := dk_181 0 13 (dk_at dksX13_init_0 11 rfl rfl)
theorem dX13_init_14 : decode cX13_init 14 = .ok (.aload_n 0, 1) := dk_42 (dk_at dksX13_init_0 14 rfl rfl)
theorem dX13_init_15 : decode cX13_init 15 = .ok (.iload_n 3, 1) := dk_29 (dk_at dksX13_init_0 15 rfl rfl)
theorem dX13_init_16 : decode cX13_init 16 = .ok (.putfield 16, 3) := dk_181 0 16 (dk_at dksX13_init_0 16 rfl rfl)
theorem dX13_init_19 : decode cX13_init 19 = .ok (.return_, 1) := dk_177 (dk_at dksX13_init_0 19 rfl rfl)
abbrev cX13_isTrue : ByteArray := prog_9_method_2_code
def yX13_isTrue : MethodName := ⟨RX13, "isTrue", "(LCoverHouse$Full;)Z"⟩
def dkwX13_isTrue_1 : List UInt8 := [180, 0, 16, 159, 0, 7, 4, 167, 0, 4, 3, 172]
abbrev dktX13_isTrue_1 : List UInt8 := dkwX13_isTrue_1 ++ []
def dkwX13_isTrue_0 : List UInt8 := [43, 180, 0, 20, 42, 180, 0, 7, 46, 42, 180, 0, 13, 160, 0, 7, 4, 167, 0, 4, 3, 42]
abbrev dktX13_isTrue_0 : List UInt8 := dkwX13_isTrue_0 ++ dktX13_isTrue_1
theorem dksX13_isTrue_0 : cX13_isTrue.data.toList.drop 0 = dktX13_isTrue_0 := by decide +kernel
theorem dksX13_isTrue_1 : cX13_isTrue.data.toList.drop 22 = dktX13_isTrue_1 := dk_seg dksX13_isTrue_0 22 rfl rfl
theorem dX13_isTrue_0 : decode cX13_isTrue 0 = .ok (.aload_n 1, 1) := dk_43 (dk_at dksX13_isTrue_0 0 rfl rfl)
theorem dX13_isTrue_1 : decode cX13_isTrue 1 = .ok (.getfield 20, 3) := dk_180 0 20 (dk_at dksX13_isTrue_0 1 rfl rfl)
theorem dX13_isTrue_4 : decode cX13_isTrue 4 = .ok (.aload_n 0, 1) := dk_42 (dk_at dksX13_isTrue_0 4 rfl rfl)
theorem dX13_isTrue_5 : decode cX13_isTrue 5 = .ok (.getfield 7, 3) := dk_180 0 7 (dk_at dksX13_isTrue_0 5 rfl rfl)
theorem dX13_isTrue_8 : decode cX13_isTrue 8 = .ok (.iaload, 1) := dk_46 (dk_at dksX13_isTrue_0 8 rfl rfl)
theorem dX13_isTrue_9 : decode cX13_isTrue 9 = .ok (.aload_n 0, 1) := dk_42 (dk_at dksX13_isTrue_0 9 rfl rfl)
theorem dX13_isTrue_10 : decode cX13_isTrue 10 = .ok (.getfield 13, 3) := dk_180 0 13 (dk_at dksX13_isTrue_0 10 rfl rfl)
theorem dX13_isTrue_13 : decode cX13_isTrue 13 = .ok (.if_icmp .ne 7, 3) := dk_160 0 7 (dk_at dksX13_isTrue_0 13 rfl rfl)
theorem dX13_isTrue_16 : decode cX13_isTrue 16 = .ok (.iconst 1, 1) := dk_4 (dk_at dksX13_isTrue_0 16 rfl rfl)
theorem dX13_isTrue_17 : decode cX13_isTrue 17 = .ok (.goto 4, 3) := dk_167 0 4 (dk_at dksX13_isTrue_0 17 rfl rfl)
theorem dX13_isTrue_20 : decode cX13_isTrue 20 = .ok (.iconst 0, 1) := dk_3 (dk_at dksX13_isTrue_0 20 rfl rfl)
theorem dX13_isTrue_21 : decode cX13_isTrue 21 = .ok (.aload_n 0, 1) := dk_42 (dk_at dksX13_isTrue_0 21 rfl rfl)
theorem dX13_isTrue_22 : decode cX13_isTrue 22 = .ok (.getfield 16, 3) := dk_180 0 16 (dk_at dksX13_isTrue_1 0 rfl rfl)
theorem dX13_isTrue_25 : decode cX13_isTrue 25 = .ok (.if_icmp .eq 7, 3) := dk_159 0 7 (dk_at dksX13_isTrue_1 3 rfl rfl)
theorem dX13_isTrue_28 : decode cX13_isTrue 28 = .ok (.iconst 1, 1) := dk_4 (dk_at dksX13_isTrue_1 6 rfl rfl)
theorem dX13_isTrue_29 : decode cX13_isTrue 29 = .ok (.goto 4, 3) := dk_167 0 4 (dk_at dksX13_isTrue_1 7 rfl rfl)
theorem dX13_isTrue_32 : decode cX13_isTrue 32 = .ok (.iconst 0, 1) := dk_3 (dk_at dksX13_isTrue_1 10 rfl rfl)
theorem dX13_isTrue_33 : decode cX13_isTrue 33 = .ok (.ireturn, 1) := dk_172 (dk_at dksX13_isTrue_1 11 rfl rfl)
theorem q156 : (Jvm.Cond.initialized "CoverHouse$Is") ∈ lw_all := lw_g (lw_at lw_m1 29 rfl) rfl
theorem q243 : (Jvm.Cond.fieldLinkNest "CoverHouse$Is" (20 : Nat) "CoverHouse$Full" "values" "[I" "CoverHouse") ∈ lw_tbl := lw_at lw_m1 116 rfl
theorem q365 : (Jvm.Cond.selects "CoverHouse$Is" ({ cls := "java/lang/Object", name := "getClass", desc := "()Ljava/lang/Class;" } : Jvm.MethodName) ({ cls := "java/lang/Object", name := "getClass", desc := "()Ljava/lang/Class;" } : Jvm.MethodName)) ∈ lw_all := lw_g (lw_at lw_m1 238 rfl) rfl
theorem q961 : (Jvm.Cond.instantiable "CoverHouse$Is" (3 : Nat)) ∈ lw_all := lw_g (lw_at lw_m4 114 rfl) rfl
theorem q963 : (Jvm.Cond.instanceMethod ({ cls := "CoverHouse$Is", name := "<init>", desc := "(IIZ)V" } : Jvm.MethodName)) ∈ lw_all := lw_g (lw_at lw_m4 116 rfl) rfl
theorem q964 : (Jvm.Cond.code ({ cls := "CoverHouse$Is", name := "<init>", desc := "(IIZ)V" } : Jvm.MethodName) prog_9_method_1_code (4 : Nat) (Option.none : Option Jvm.ClassFile.FieldType)) ∈ lw_all := lw_g (lw_at lw_m4 117 rfl) rfl
theorem q965 : (Jvm.Cond.methodLinkNest "CoverHouse$Is" (1 : Nat) ({ cls := "CoverHouse$Cond", name := "<init>", desc := "()V" } : Jvm.MethodName) "CoverHouse") ∈ lw_tbl := lw_at lw_m4 118 rfl
theorem q966 : (Jvm.Cond.fieldLink "CoverHouse$Is" (7 : Nat) "CoverHouse$Is" "fact" "I") ∈ lw_all := lw_g (lw_at lw_m4 119 rfl) rfl
theorem q967 : (Jvm.Cond.fieldLink "CoverHouse$Is" (13 : Nat) "CoverHouse$Is" "value" "I") ∈ lw_all := lw_g (lw_at lw_m4 120 rfl) rfl
theorem q968 : (Jvm.Cond.fieldLink "CoverHouse$Is" (16 : Nat) "CoverHouse$Is" "not" "Z") ∈ lw_all := lw_g (lw_at lw_m4 121 rfl) rfl
theorem q969 : (Jvm.Cond.laysFinal "CoverHouse$Is" "CoverHouse$Is" "fact" "I") ∈ lw_all := lw_g (lw_at lw_m4 122 rfl) rfl
theorem q970 : (Jvm.Cond.soleField "CoverHouse$Is" "fact") ∈ lw_all := lw_g (lw_at lw_m4 123 rfl) rfl
theorem q971 : (Jvm.Cond.laysFinal "CoverHouse$Is" "CoverHouse$Is" "value" "I") ∈ lw_all := lw_g (lw_at lw_m4 124 rfl) rfl
theorem q972 : (Jvm.Cond.soleField "CoverHouse$Is" "value") ∈ lw_all := lw_g (lw_at lw_m4 125 rfl) rfl
theorem q973 : (Jvm.Cond.laysFinal "CoverHouse$Is" "CoverHouse$Is" "not" "Z") ∈ lw_all := lw_g (lw_at lw_m4 126 rfl) rfl
theorem q974 : (Jvm.Cond.soleField "CoverHouse$Is" "not") ∈ lw_all := lw_g (lw_at lw_m4 127 rfl) rfl
theorem q975 : (Jvm.Cond.superclass "CoverHouse$Is" "CoverHouse$Cond") ∈ lw_all := lw_g (lw_at lw_m4 128 rfl) rfl
theorem q1154 : (Jvm.Cond.selects "CoverHouse$Is" ({ cls := "CoverHouse$Cond", name := "part", desc := "(ILCoverHouse$Starts;)V" } : Jvm.MethodName) ({ cls := "CoverHouse$Cond", name := "part", desc := "(ILCoverHouse$Starts;)V" } : Jvm.MethodName)) ∈ lw_all := lw_g (lw_at lw_m5 67 rfl) rfl
theorem q1216 : (Jvm.Cond.selects "CoverHouse$Is" ({ cls := "CoverHouse$Cond", name := "isTrue", desc := "(LCoverHouse$Full;)Z" } : Jvm.MethodName) ({ cls := "CoverHouse$Is", name := "isTrue", desc := "(LCoverHouse$Full;)Z" } : Jvm.MethodName)) ∈ lw_all := lw_g (lw_at lw_m5 129 rfl) rfl
theorem q1217 : (Jvm.Cond.instanceMethod ({ cls := "CoverHouse$Is", name := "isTrue", desc := "(LCoverHouse$Full;)Z" } : Jvm.MethodName)) ∈ lw_all := lw_g (lw_at lw_m5 130 rfl) rfl
theorem q1218 : (Jvm.Cond.code ({ cls := "CoverHouse$Is", name := "isTrue", desc := "(LCoverHouse$Full;)Z" } : Jvm.MethodName) prog_9_method_2_code (2 : Nat) (Option.some Jvm.ClassFile.FieldType.boolean)) ∈ lw_all := lw_g (lw_at lw_m5 131 rfl) rfl
theorem q2684 : (Jvm.Cond.castable "CoverHouse$Is" "CoverHouse$Cond") ∈ lw_tbl := lw_at lw_m11 157 rfl
theorem q2702 : (Jvm.Cond.castable "CoverHouse$Is" "java/lang/Object") ∈ lw_tbl := lw_at lw_m11 175 rfl
theorem in_X13 : ∀ w ∈ wsX130, w ∈ lw_all := lw_in wsX130 [969, 971, 973] (by decide +kernel) (by decide +kernel)

/-! CoverHouse$Measure -/
set_option maxRecDepth 100000
def RX14 : String := "CoverHouse$Measure"
def TX14 : u_T := fun k => match k with
  | 0 => ("CoverHouse$Measure", "fact", "I", true)
  | 1 => ("CoverHouse$Measure", "sign", "LCoverHouse$Sign;", true)
  | _ => ("CoverHouse$Measure", "with", "I", true)
def tyX14 : Nat → FieldType := fun k => match k with
  | 0 => .int
  | 1 => .object "CoverHouse$Sign"
  | _ => .int
abbrev wsX140 : List Cond := u_ws RX14 TX14 3
theorem nmX14 : ∀ a, a < 3 → ∀ b, b < 3 → a ≠ b → (TX14 a).2.1 ≠ (TX14 b).2.1 := by decide +kernel
theorem tyX14_ok : ∀ k, k < 3 → parseFieldDescriptor (TX14 k).2.2.1 = some (tyX14 k) := by decide +kernel
abbrev cX14_init : ByteArray := prog_14_method_1_code
def yX14_init : MethodName := ⟨RX14, "<init>", "(ILCoverHouse$Sign;I)V"⟩
def dkwX14_init_0 : List UInt8 := [42, 183, 0, 1, 42, 27, 181, 0, 7, 42, 44, 181, 0, 13, 42, 29, 181, 0, 17, 177]
abbrev dktX14_init_0 : List UInt8 := dkwX14_init_0 ++ []
theorem dksX14_init_0 : cX14_init.data.toList.drop 0 = dktX14_init_0 := by decide +kernel
theorem dX14_init_0 : decode cX14_init 0 = .ok (.aload_n 0, 1) := dk_42 (dk_at dksX14_init_0 0 rfl rfl)
theorem dX14_init_1 : decode cX14_init 1 = .ok (.invokespecial 1, 3) := dk_183 0 1 (dk_at dksX14_init_0 1 rfl rfl)
theorem dX14_init_4 : decode cX14_init 4 = .ok (.aload_n 0, 1) := dk_42 (dk_at dksX14_init_0 4 rfl rfl)
theorem dX14_init_5 : decode cX14_init 5 = .ok (.iload_n 1, 1) := dk_27 (dk_at dksX14_init_0 5 rfl rfl)
theorem dX14_init_6 : decode cX14_init 6 = .ok (.putfield 7, 3) := dk_181 0 7 (dk_at dksX14_init_0 6 rfl rfl)
theorem dX14_init_9 : decode cX14_init 9 = .ok (.aload_n 0, 1) := dk_42 (dk_at dksX14_init_0 9 rfl rfl)
theorem dX14_init_10 : decode cX14_init 10 = .ok (.aload_n 2, 1) := dk_44 (dk_at dksX14_init_0 10 rfl rfl)
theorem dX14_init_11 : decode cX14_init 11 = .ok (.putfield 13, 3) := dk_181 0 13 (dk_at dksX14_init_0 11 rfl rfl)
theorem dX14_init_14 : decode cX14_init 14 = .ok (.aload_n 0, 1) := dk_42 (dk_at dksX14_init_0 14 rfl rfl)
theorem dX14_init_15 : decode cX14_init 15 = .ok (.iload_n 3, 1) := dk_29 (dk_at dksX14_init_0 15 rfl rfl)
theorem dX14_init_16 : decode cX14_init 16 = .ok (.putfield 17, 3) := dk_181 0 17 (dk_at dksX14_init_0 16 rfl rfl)
theorem dX14_init_19 : decode cX14_init 19 = .ok (.return_, 1) := dk_177 (dk_at dksX14_init_0 19 rfl rfl)
abbrev cX14_part : ByteArray := prog_14_method_3_code
def yX14_part : MethodName := ⟨RX14, "part", "(ILCoverHouse$Starts;)V"⟩
def dkwX14_part_2 : List UInt8 := [42, 180, 0, 13, 178, 0, 47, 165, 0, 13, 44, 42, 180, 0, 17, 4, 96, 182, 0, 38, 177]
abbrev dktX14_part_2 : List UInt8 := dkwX14_part_2 ++ []
def dkwX14_part_1 : List UInt8 := [178, 0, 35, 165, 0, 11, 44, 42, 180, 0, 17, 182, 0, 38, 42, 180, 0, 13, 178, 0, 44, 165, 0, 23]
abbrev dktX14_part_1 : List UInt8 := dkwX14_part_1 ++ dktX14_part_2
def dkwX14_part_0 : List UInt8 := [27, 42, 180, 0, 7, 159, 0, 4, 177, 42, 180, 0, 13, 178, 0, 32, 165, 0, 21, 42, 180, 0, 13]
abbrev dktX14_part_0 : List UInt8 := dkwX14_part_0 ++ dktX14_part_1
theorem dksX14_part_0 : cX14_part.data.toList.drop 0 = dktX14_part_0 := by decide +kernel
theorem dksX14_part_1 : cX14_part.data.toList.drop 23 = dktX14_part_1 := dk_seg dksX14_part_0 23 rfl rfl
theorem dksX14_part_2 : cX14_part.data.toList.drop 47 = dktX14_part_2 := dk_seg dksX14_part_1 24 rfl rfl
theorem dX14_part_0 : decode cX14_part 0 = .ok (.iload_n 1, 1) := dk_27 (dk_at dksX14_part_0 0 rfl rfl)
theorem dX14_part_1 : decode cX14_part 1 = .ok (.aload_n 0, 1) := dk_42 (dk_at dksX14_part_0 1 rfl rfl)
theorem dX14_part_2 : decode cX14_part 2 = .ok (.getfield 7, 3) := dk_180 0 7 (dk_at dksX14_part_0 2 rfl rfl)
theorem dX14_part_5 : decode cX14_part 5 = .ok (.if_icmp .eq 4, 3) := dk_159 0 4 (dk_at dksX14_part_0 5 rfl rfl)
theorem dX14_part_8 : decode cX14_part 8 = .ok (.return_, 1) := dk_177 (dk_at dksX14_part_0 8 rfl rfl)
theorem dX14_part_9 : decode cX14_part 9 = .ok (.aload_n 0, 1) := dk_42 (dk_at dksX14_part_0 9 rfl rfl)
theorem dX14_part_10 : decode cX14_part 10 = .ok (.getfield 13, 3) := dk_180 0 13 (dk_at dksX14_part_0 10 rfl rfl)
theorem dX14_part_13 : decode cX14_part 13 = .ok (.getstatic 32, 3) := dk_178 0 32 (dk_at dksX14_part_0 13 rfl rfl)
theorem dX14_part_16 : decode cX14_part 16 = .ok (.if_acmp .eq 21, 3) := dk_165 0 21 (dk_at dksX14_part_0 16 rfl rfl)
theorem dX14_part_19 : decode cX14_part 19 = .ok (.aload_n 0, 1) := dk_42 (dk_at dksX14_part_0 19 rfl rfl)
theorem dX14_part_20 : decode cX14_part 20 = .ok (.getfield 13, 3) := dk_180 0 13 (dk_at dksX14_part_0 20 rfl rfl)
theorem dX14_part_23 : decode cX14_part 23 = .ok (.getstatic 35, 3) := dk_178 0 35 (dk_at dksX14_part_1 0 rfl rfl)
theorem dX14_part_26 : decode cX14_part 26 = .ok (.if_acmp .eq 11, 3) := dk_165 0 11 (dk_at dksX14_part_1 3 rfl rfl)
theorem dX14_part_29 : decode cX14_part 29 = .ok (.aload_n 2, 1) := dk_44 (dk_at dksX14_part_1 6 rfl rfl)
theorem dX14_part_30 : decode cX14_part 30 = .ok (.aload_n 0, 1) := dk_42 (dk_at dksX14_part_1 7 rfl rfl)
theorem dX14_part_31 : decode cX14_part 31 = .ok (.getfield 17, 3) := dk_180 0 17 (dk_at dksX14_part_1 8 rfl rfl)
theorem dX14_part_34 : decode cX14_part 34 = .ok (.invokevirtual 38, 3) := dk_182 0 38 (dk_at dksX14_part_1 11 rfl rfl)
theorem dX14_part_37 : decode cX14_part 37 = .ok (.aload_n 0, 1) := dk_42 (dk_at dksX14_part_1 14 rfl rfl)
theorem dX14_part_38 : decode cX14_part 38 = .ok (.getfield 13, 3) := dk_180 0 13 (dk_at dksX14_part_1 15 rfl rfl)
theorem dX14_part_41 : decode cX14_part 41 = .ok (.getstatic 44, 3) := dk_178 0 44 (dk_at dksX14_part_1 18 rfl rfl)
theorem dX14_part_44 : decode cX14_part 44 = .ok (.if_acmp .eq 23, 3) := dk_165 0 23 (dk_at dksX14_part_1 21 rfl rfl)
theorem dX14_part_47 : decode cX14_part 47 = .ok (.aload_n 0, 1) := dk_42 (dk_at dksX14_part_2 0 rfl rfl)
theorem dX14_part_48 : decode cX14_part 48 = .ok (.getfield 13, 3) := dk_180 0 13 (dk_at dksX14_part_2 1 rfl rfl)
theorem dX14_part_51 : decode cX14_part 51 = .ok (.getstatic 47, 3) := dk_178 0 47 (dk_at dksX14_part_2 4 rfl rfl)
theorem dX14_part_54 : decode cX14_part 54 = .ok (.if_acmp .eq 13, 3) := dk_165 0 13 (dk_at dksX14_part_2 7 rfl rfl)
theorem dX14_part_57 : decode cX14_part 57 = .ok (.aload_n 2, 1) := dk_44 (dk_at dksX14_part_2 10 rfl rfl)
theorem dX14_part_58 : decode cX14_part 58 = .ok (.aload_n 0, 1) := dk_42 (dk_at dksX14_part_2 11 rfl rfl)
theorem dX14_part_59 : decode cX14_part 59 = .ok (.getfield 17, 3) := dk_180 0 17 (dk_at dksX14_part_2 12 rfl rfl)
theorem dX14_part_62 : decode cX14_part 62 = .ok (.iconst 1, 1) := dk_4 (dk_at dksX14_part_2 15 rfl rfl)
theorem dX14_part_63 : decode cX14_part 63 = .ok (.iadd, 1) := dk_96 (dk_at dksX14_part_2 16 rfl rfl)
theorem dX14_part_64 : decode cX14_part 64 = .ok (.invokevirtual 38, 3) := dk_182 0 38 (dk_at dksX14_part_2 17 rfl rfl)
theorem dX14_part_67 : decode cX14_part 67 = .ok (.return_, 1) := dk_177 (dk_at dksX14_part_2 20 rfl rfl)
abbrev cX14_isTrue : ByteArray := prog_14_method_2_code
def yX14_isTrue : MethodName := ⟨RX14, "isTrue", "(LCoverHouse$Full;)Z"⟩
def dkwX14_isTrue_0 : List UInt8 := [42, 180, 0, 13, 43, 180, 0, 20, 42, 180, 0, 7, 46, 42, 180, 0, 17, 182, 0, 26, 172]
abbrev dktX14_isTrue_0 : List UInt8 := dkwX14_isTrue_0 ++ []
theorem dksX14_isTrue_0 : cX14_isTrue.data.toList.drop 0 = dktX14_isTrue_0 := by decide +kernel
theorem dX14_isTrue_0 : decode cX14_isTrue 0 = .ok (.aload_n 0, 1) := dk_42 (dk_at dksX14_isTrue_0 0 rfl rfl)
theorem dX14_isTrue_1 : decode cX14_isTrue 1 = .ok (.getfield 13, 3) := dk_180 0 13 (dk_at dksX14_isTrue_0 1 rfl rfl)
theorem dX14_isTrue_4 : decode cX14_isTrue 4 = .ok (.aload_n 1, 1) := dk_43 (dk_at dksX14_isTrue_0 4 rfl rfl)
theorem dX14_isTrue_5 : decode cX14_isTrue 5 = .ok (.getfield 20, 3) := dk_180 0 20 (dk_at dksX14_isTrue_0 5 rfl rfl)
theorem dX14_isTrue_8 : decode cX14_isTrue 8 = .ok (.aload_n 0, 1) := dk_42 (dk_at dksX14_isTrue_0 8 rfl rfl)
theorem dX14_isTrue_9 : decode cX14_isTrue 9 = .ok (.getfield 7, 3) := dk_180 0 7 (dk_at dksX14_isTrue_0 9 rfl rfl)
theorem dX14_isTrue_12 : decode cX14_isTrue 12 = .ok (.iaload, 1) := dk_46 (dk_at dksX14_isTrue_0 12 rfl rfl)
theorem dX14_isTrue_13 : decode cX14_isTrue 13 = .ok (.aload_n 0, 1) := dk_42 (dk_at dksX14_isTrue_0 13 rfl rfl)
theorem dX14_isTrue_14 : decode cX14_isTrue 14 = .ok (.getfield 17, 3) := dk_180 0 17 (dk_at dksX14_isTrue_0 14 rfl rfl)
theorem dX14_isTrue_17 : decode cX14_isTrue 17 = .ok (.invokevirtual 26, 3) := dk_182 0 26 (dk_at dksX14_isTrue_0 17 rfl rfl)
theorem dX14_isTrue_20 : decode cX14_isTrue 20 = .ok (.ireturn, 1) := dk_172 (dk_at dksX14_isTrue_0 20 rfl rfl)
theorem q159 : (Jvm.Cond.initialized "CoverHouse$Measure") ∈ lw_all := lw_g (lw_at lw_m1 32 rfl) rfl
theorem q244 : (Jvm.Cond.fieldLinkNest "CoverHouse$Measure" (20 : Nat) "CoverHouse$Full" "values" "[I" "CoverHouse") ∈ lw_tbl := lw_at lw_m1 117 rfl
theorem q370 : (Jvm.Cond.selects "CoverHouse$Measure" ({ cls := "java/lang/Object", name := "getClass", desc := "()Ljava/lang/Class;" } : Jvm.MethodName) ({ cls := "java/lang/Object", name := "getClass", desc := "()Ljava/lang/Class;" } : Jvm.MethodName)) ∈ lw_all := lw_g (lw_at lw_m2 3 rfl) rfl
theorem q993 : (Jvm.Cond.instantiable "CoverHouse$Measure" (3 : Nat)) ∈ lw_all := lw_g (lw_at lw_m4 146 rfl) rfl
theorem q995 : (Jvm.Cond.instanceMethod ({ cls := "CoverHouse$Measure", name := "<init>", desc := "(ILCoverHouse$Sign;I)V" } : Jvm.MethodName)) ∈ lw_all := lw_g (lw_at lw_m4 148 rfl) rfl
theorem q996 : (Jvm.Cond.code ({ cls := "CoverHouse$Measure", name := "<init>", desc := "(ILCoverHouse$Sign;I)V" } : Jvm.MethodName) prog_14_method_1_code (4 : Nat) (Option.none : Option Jvm.ClassFile.FieldType)) ∈ lw_all := lw_g (lw_at lw_m4 149 rfl) rfl
theorem q997 : (Jvm.Cond.methodLinkNest "CoverHouse$Measure" (1 : Nat) ({ cls := "CoverHouse$Cond", name := "<init>", desc := "()V" } : Jvm.MethodName) "CoverHouse") ∈ lw_tbl := lw_at lw_m4 150 rfl
theorem q998 : (Jvm.Cond.fieldLink "CoverHouse$Measure" (7 : Nat) "CoverHouse$Measure" "fact" "I") ∈ lw_all := lw_g (lw_at lw_m4 151 rfl) rfl
theorem q999 : (Jvm.Cond.fieldLink "CoverHouse$Measure" (13 : Nat) "CoverHouse$Measure" "sign" "LCoverHouse$Sign;") ∈ lw_all := lw_g (lw_at lw_m4 152 rfl) rfl
theorem q1000 : (Jvm.Cond.fieldLink "CoverHouse$Measure" (17 : Nat) "CoverHouse$Measure" "with" "I") ∈ lw_all := lw_g (lw_at lw_m4 153 rfl) rfl
theorem q1001 : (Jvm.Cond.laysFinal "CoverHouse$Measure" "CoverHouse$Measure" "fact" "I") ∈ lw_all := lw_g (lw_at lw_m4 154 rfl) rfl
theorem q1002 : (Jvm.Cond.soleField "CoverHouse$Measure" "fact") ∈ lw_all := lw_g (lw_at lw_m4 155 rfl) rfl
theorem q1003 : (Jvm.Cond.laysFinal "CoverHouse$Measure" "CoverHouse$Measure" "sign" "LCoverHouse$Sign;") ∈ lw_all := lw_g (lw_at lw_m4 156 rfl) rfl
theorem q1004 : (Jvm.Cond.soleField "CoverHouse$Measure" "sign") ∈ lw_all := lw_g (lw_at lw_m4 157 rfl) rfl
theorem q1005 : (Jvm.Cond.laysFinal "CoverHouse$Measure" "CoverHouse$Measure" "with" "I") ∈ lw_all := lw_g (lw_at lw_m4 158 rfl) rfl
theorem q1006 : (Jvm.Cond.soleField "CoverHouse$Measure" "with") ∈ lw_all := lw_g (lw_at lw_m4 159 rfl) rfl
theorem q1007 : (Jvm.Cond.superclass "CoverHouse$Measure" "CoverHouse$Cond") ∈ lw_all := lw_g (lw_at lw_m4 160 rfl) rfl
theorem q1164 : (Jvm.Cond.instanceMethod ({ cls := "CoverHouse$Measure", name := "part", desc := "(ILCoverHouse$Starts;)V" } : Jvm.MethodName)) ∈ lw_all := lw_g (lw_at lw_m5 77 rfl) rfl
theorem q1165 : (Jvm.Cond.code ({ cls := "CoverHouse$Measure", name := "part", desc := "(ILCoverHouse$Starts;)V" } : Jvm.MethodName) prog_14_method_3_code (3 : Nat) (Option.none : Option Jvm.ClassFile.FieldType)) ∈ lw_all := lw_g (lw_at lw_m5 78 rfl) rfl
theorem q1166 : (Jvm.Cond.fieldLink "CoverHouse$Measure" (32 : Nat) "CoverHouse$Sign" "ABOVE" "LCoverHouse$Sign;") ∈ lw_all := lw_g (lw_at lw_m5 79 rfl) rfl
theorem q1167 : (Jvm.Cond.fieldLink "CoverHouse$Measure" (35 : Nat) "CoverHouse$Sign" "MOST" "LCoverHouse$Sign;") ∈ lw_all := lw_g (lw_at lw_m5 80 rfl) rfl
theorem q1168 : (Jvm.Cond.methodLink "CoverHouse$Measure" (38 : Nat) ({ cls := "CoverHouse$Starts", name := "add", desc := "(I)V" } : Jvm.MethodName)) ∈ lw_all := lw_g (lw_at lw_m5 81 rfl) rfl
theorem q1172 : (Jvm.Cond.fieldLink "CoverHouse$Measure" (44 : Nat) "CoverHouse$Sign" "BELOW" "LCoverHouse$Sign;") ∈ lw_all := lw_g (lw_at lw_m5 85 rfl) rfl
theorem q1173 : (Jvm.Cond.fieldLink "CoverHouse$Measure" (47 : Nat) "CoverHouse$Sign" "LEAST" "LCoverHouse$Sign;") ∈ lw_all := lw_g (lw_at lw_m5 86 rfl) rfl
theorem q1178 : (Jvm.Cond.selects "CoverHouse$Measure" ({ cls := "CoverHouse$Cond", name := "part", desc := "(ILCoverHouse$Starts;)V" } : Jvm.MethodName) ({ cls := "CoverHouse$Measure", name := "part", desc := "(ILCoverHouse$Starts;)V" } : Jvm.MethodName)) ∈ lw_all := lw_g (lw_at lw_m5 91 rfl) rfl
theorem q1225 : (Jvm.Cond.instanceMethod ({ cls := "CoverHouse$Measure", name := "isTrue", desc := "(LCoverHouse$Full;)Z" } : Jvm.MethodName)) ∈ lw_all := lw_g (lw_at lw_m5 138 rfl) rfl
theorem q1226 : (Jvm.Cond.code ({ cls := "CoverHouse$Measure", name := "isTrue", desc := "(LCoverHouse$Full;)Z" } : Jvm.MethodName) prog_14_method_2_code (2 : Nat) (Option.some Jvm.ClassFile.FieldType.boolean)) ∈ lw_all := lw_g (lw_at lw_m5 139 rfl) rfl
theorem q1227 : (Jvm.Cond.methodLink "CoverHouse$Measure" (26 : Nat) ({ cls := "CoverHouse$Sign", name := "holds", desc := "(II)Z" } : Jvm.MethodName)) ∈ lw_all := lw_g (lw_at lw_m5 140 rfl) rfl
theorem q1252 : (Jvm.Cond.selects "CoverHouse$Measure" ({ cls := "CoverHouse$Cond", name := "isTrue", desc := "(LCoverHouse$Full;)Z" } : Jvm.MethodName) ({ cls := "CoverHouse$Measure", name := "isTrue", desc := "(LCoverHouse$Full;)Z" } : Jvm.MethodName)) ∈ lw_all := lw_g (lw_at lw_m5 165 rfl) rfl
theorem q2687 : (Jvm.Cond.castable "CoverHouse$Measure" "CoverHouse$Cond") ∈ lw_tbl := lw_at lw_m11 160 rfl
theorem q2709 : (Jvm.Cond.castable "CoverHouse$Measure" "java/lang/Object") ∈ lw_tbl := lw_at lw_m11 182 rfl
theorem in_X14 : ∀ w ∈ wsX140, w ∈ lw_all := lw_in wsX140 [1001, 1003, 1005] (by decide +kernel) (by decide +kernel)

/-! CoverHouse$Many -/
set_option maxRecDepth 100000
def RX15 : String := "CoverHouse$Many"
def TX15 : u_T := fun k => match k with
  | 0 => ("CoverHouse$Many", "isOr", "Z", true)
  | _ => ("CoverHouse$Many", "parts", "Ljava/util/List;", true)
def tyX15 : Nat → FieldType := fun k => match k with
  | 0 => .boolean
  | _ => .object "java/util/List"
abbrev wsX150 : List Cond := u_ws RX15 TX15 2
theorem nmX15 : ∀ a, a < 2 → ∀ b, b < 2 → a ≠ b → (TX15 a).2.1 ≠ (TX15 b).2.1 := by decide +kernel
theorem tyX15_ok : ∀ k, k < 2 → parseFieldDescriptor (TX15 k).2.2.1 = some (tyX15 k) := by decide +kernel
abbrev cX15_init : ByteArray := prog_12_method_1_code
def yX15_init : MethodName := ⟨RX15, "<init>", "(Z)V"⟩
def dkwX15_init_0 : List UInt8 := [42, 183, 0, 1, 42, 187, 0, 7, 89, 183, 0, 9, 181, 0, 10, 42, 27, 181, 0, 16, 177]
abbrev dktX15_init_0 : List UInt8 := dkwX15_init_0 ++ []
theorem dksX15_init_0 : cX15_init.data.toList.drop 0 = dktX15_init_0 := by decide +kernel
theorem dX15_init_0 : decode cX15_init 0 = .ok (.aload_n 0, 1) := dk_42 (dk_at dksX15_init_0 0 rfl rfl)
theorem dX15_init_1 : decode cX15_init 1 = .ok (.invokespecial 1, 3) := dk_183 0 1 (dk_at dksX15_init_0 1 rfl rfl)
theorem dX15_init_4 : decode cX15_init 4 = .ok (.aload_n 0, 1) := dk_42 (dk_at dksX15_init_0 4 rfl rfl)
theorem dX15_init_5 : decode cX15_init 5 = .ok (.new 7, 3) := dk_187 0 7 (dk_at dksX15_init_0 5 rfl rfl)
theorem dX15_init_8 : decode cX15_init 8 = .ok (.dup, 1) := dk_89 (dk_at dksX15_init_0 8 rfl rfl)
theorem dX15_init_9 : decode cX15_init 9 = .ok (.invokespecial 9, 3) := dk_183 0 9 (dk_at dksX15_init_0 9 rfl rfl)
theorem dX15_init_12 : decode cX15_init 12 = .ok (.putfield 10, 3) := dk_181 0 10 (dk_at dksX15_init_0 12 rfl rfl)
theorem dX15_init_15 : decode cX15_init 15 = .ok (.aload_n 0, 1) := dk_42 (dk_at dksX15_init_0 15 rfl rfl)
theorem dX15_init_16 : decode cX15_init 16 = .ok (.iload_n 1, 1) := dk_27 (dk_at dksX15_init_0 16 rfl rfl)
theorem dX15_init_17 : decode cX15_init 17 = .ok (.putfield 16, 3) := dk_181 0 16 (dk_at dksX15_init_0 17 rfl rfl)
theorem dX15_init_20 : decode cX15_init 20 = .ok (.return_, 1) := dk_177 (dk_at dksX15_init_0 20 rfl rfl)
abbrev cX15_part : ByteArray := prog_12_method_3_code
def yX15_part : MethodName := ⟨RX15, "part", "(ILCoverHouse$Starts;)V"⟩
def dkwX15_part_1 : List UInt8 := [185, 0, 26, 2, 0, 192, 0, 2, 27, 44, 182, 0, 34, 132, 3, 1, 167, 255, 222, 177]
abbrev dktX15_part_1 : List UInt8 := dkwX15_part_1 ++ []
def dkwX15_part_0 : List UInt8 := [3, 62, 29, 42, 180, 0, 10, 185, 0, 20, 1, 0, 162, 0, 27, 42, 180, 0, 10, 29]
abbrev dktX15_part_0 : List UInt8 := dkwX15_part_0 ++ dktX15_part_1
theorem dksX15_part_0 : cX15_part.data.toList.drop 0 = dktX15_part_0 := by decide +kernel
theorem dksX15_part_1 : cX15_part.data.toList.drop 20 = dktX15_part_1 := dk_seg dksX15_part_0 20 rfl rfl
theorem dX15_part_0 : decode cX15_part 0 = .ok (.iconst 0, 1) := dk_3 (dk_at dksX15_part_0 0 rfl rfl)
theorem dX15_part_1 : decode cX15_part 1 = .ok (.istore_n 3, 1) := dk_62 (dk_at dksX15_part_0 1 rfl rfl)
theorem dX15_part_2 : decode cX15_part 2 = .ok (.iload_n 3, 1) := dk_29 (dk_at dksX15_part_0 2 rfl rfl)
theorem dX15_part_3 : decode cX15_part 3 = .ok (.aload_n 0, 1) := dk_42 (dk_at dksX15_part_0 3 rfl rfl)
theorem dX15_part_4 : decode cX15_part 4 = .ok (.getfield 10, 3) := dk_180 0 10 (dk_at dksX15_part_0 4 rfl rfl)
theorem dX15_part_7 : decode cX15_part 7 = .ok (.invokeinterface 20 1, 5) := by decide +kernel
theorem dX15_part_12 : decode cX15_part 12 = .ok (.if_icmp .ge 27, 3) := dk_162 0 27 (dk_at dksX15_part_0 12 rfl rfl)
theorem dX15_part_15 : decode cX15_part 15 = .ok (.aload_n 0, 1) := dk_42 (dk_at dksX15_part_0 15 rfl rfl)
theorem dX15_part_16 : decode cX15_part 16 = .ok (.getfield 10, 3) := dk_180 0 10 (dk_at dksX15_part_0 16 rfl rfl)
theorem dX15_part_19 : decode cX15_part 19 = .ok (.iload_n 3, 1) := dk_29 (dk_at dksX15_part_0 19 rfl rfl)
theorem dX15_part_20 : decode cX15_part 20 = .ok (.invokeinterface 26 2, 5) := by decide +kernel
theorem dX15_part_25 : decode cX15_part 25 = .ok (.checkcast 2, 3) := dk_192 0 2 (dk_at dksX15_part_1 5 rfl rfl)
theorem dX15_part_28 : decode cX15_part 28 = .ok (.iload_n 1, 1) := dk_27 (dk_at dksX15_part_1 8 rfl rfl)
theorem dX15_part_29 : decode cX15_part 29 = .ok (.aload_n 2, 1) := dk_44 (dk_at dksX15_part_1 9 rfl rfl)
theorem dX15_part_30 : decode cX15_part 30 = .ok (.invokevirtual 34, 3) := dk_182 0 34 (dk_at dksX15_part_1 10 rfl rfl)
theorem dX15_part_33 : decode cX15_part 33 = .ok (.iinc 3 1, 3) := dk_132 3 1 (dk_at dksX15_part_1 13 rfl rfl)
theorem dX15_part_36 : decode cX15_part 36 = .ok (.goto (-34), 3) := dk_167 255 222 (dk_at dksX15_part_1 16 rfl rfl)
theorem dX15_part_39 : decode cX15_part 39 = .ok (.return_, 1) := dk_177 (dk_at dksX15_part_1 19 rfl rfl)
abbrev cX15_isTrue : ByteArray := prog_12_method_2_code
def yX15_isTrue : MethodName := ⟨RX15, "isTrue", "(LCoverHouse$Full;)Z"⟩
def dkwX15_isTrue_2 : List UInt8 := [132, 2, 1, 167, 255, 211, 42, 180, 0, 16, 154, 0, 7, 4, 167, 0, 4, 3, 172]
abbrev dktX15_isTrue_2 : List UInt8 := dkwX15_isTrue_2 ++ []
def dkwX15_isTrue_1 : List UInt8 := [185, 0, 26, 2, 0, 192, 0, 2, 43, 182, 0, 30, 42, 180, 0, 16, 160, 0, 8, 42, 180, 0, 16, 172]
abbrev dktX15_isTrue_1 : List UInt8 := dkwX15_isTrue_1 ++ dktX15_isTrue_2
def dkwX15_isTrue_0 : List UInt8 := [3, 61, 28, 42, 180, 0, 10, 185, 0, 20, 1, 0, 162, 0, 38, 42, 180, 0, 10, 28]
abbrev dktX15_isTrue_0 : List UInt8 := dkwX15_isTrue_0 ++ dktX15_isTrue_1
theorem dksX15_isTrue_0 : cX15_isTrue.data.toList.drop 0 = dktX15_isTrue_0 := by decide +kernel
theorem dksX15_isTrue_1 : cX15_isTrue.data.toList.drop 20 = dktX15_isTrue_1 := dk_seg dksX15_isTrue_0 20 rfl rfl
theorem dksX15_isTrue_2 : cX15_isTrue.data.toList.drop 44 = dktX15_isTrue_2 := dk_seg dksX15_isTrue_1 24 rfl rfl
theorem dX15_isTrue_0 : decode cX15_isTrue 0 = .ok (.iconst 0, 1) := dk_3 (dk_at dksX15_isTrue_0 0 rfl rfl)
theorem dX15_isTrue_1 : decode cX15_isTrue 1 = .ok (.istore_n 2, 1) := dk_61 (dk_at dksX15_isTrue_0 1 rfl rfl)
theorem dX15_isTrue_2 : decode cX15_isTrue 2 = .ok (.iload_n 2, 1) := dk_28 (dk_at dksX15_isTrue_0 2 rfl rfl)
theorem dX15_isTrue_3 : decode cX15_isTrue 3 = .ok (.aload_n 0, 1) := dk_42 (dk_at dksX15_isTrue_0 3 rfl rfl)
theorem dX15_isTrue_4 : decode cX15_isTrue 4 = .ok (.getfield 10, 3) := dk_180 0 10 (dk_at dksX15_isTrue_0 4 rfl rfl)
theorem dX15_isTrue_7 : decode cX15_isTrue 7 = .ok (.invokeinterface 20 1, 5) := by decide +kernel
theorem dX15_isTrue_12 : decode cX15_isTrue 12 = .ok (.if_icmp .ge 38, 3) := dk_162 0 38 (dk_at dksX15_isTrue_0 12 rfl rfl)
theorem dX15_isTrue_15 : decode cX15_isTrue 15 = .ok (.aload_n 0, 1) := dk_42 (dk_at dksX15_isTrue_0 15 rfl rfl)
theorem dX15_isTrue_16 : decode cX15_isTrue 16 = .ok (.getfield 10, 3) := dk_180 0 10 (dk_at dksX15_isTrue_0 16 rfl rfl)
theorem dX15_isTrue_19 : decode cX15_isTrue 19 = .ok (.iload_n 2, 1) := dk_28 (dk_at dksX15_isTrue_0 19 rfl rfl)
theorem dX15_isTrue_20 : decode cX15_isTrue 20 = .ok (.invokeinterface 26 2, 5) := by decide +kernel
theorem dX15_isTrue_25 : decode cX15_isTrue 25 = .ok (.checkcast 2, 3) := dk_192 0 2 (dk_at dksX15_isTrue_1 5 rfl rfl)
theorem dX15_isTrue_28 : decode cX15_isTrue 28 = .ok (.aload_n 1, 1) := dk_43 (dk_at dksX15_isTrue_1 8 rfl rfl)
theorem dX15_isTrue_29 : decode cX15_isTrue 29 = .ok (.invokevirtual 30, 3) := dk_182 0 30 (dk_at dksX15_isTrue_1 9 rfl rfl)
theorem dX15_isTrue_32 : decode cX15_isTrue 32 = .ok (.aload_n 0, 1) := dk_42 (dk_at dksX15_isTrue_1 12 rfl rfl)
theorem dX15_isTrue_33 : decode cX15_isTrue 33 = .ok (.getfield 16, 3) := dk_180 0 16 (dk_at dksX15_isTrue_1 13 rfl rfl)
theorem dX15_isTrue_36 : decode cX15_isTrue 36 = .ok (.if_icmp .ne 8, 3) := dk_160 0 8 (dk_at dksX15_isTrue_1 16 rfl rfl)
theorem dX15_isTrue_39 : decode cX15_isTrue 39 = .ok (.aload_n 0, 1) := dk_42 (dk_at dksX15_isTrue_1 19 rfl rfl)
theorem dX15_isTrue_40 : decode cX15_isTrue 40 = .ok (.getfield 16, 3) := dk_180 0 16 (dk_at dksX15_isTrue_1 20 rfl rfl)
theorem dX15_isTrue_43 : decode cX15_isTrue 43 = .ok (.ireturn, 1) := dk_172 (dk_at dksX15_isTrue_1 23 rfl rfl)
theorem dX15_isTrue_44 : decode cX15_isTrue 44 = .ok (.iinc 2 1, 3) := dk_132 2 1 (dk_at dksX15_isTrue_2 0 rfl rfl)
theorem dX15_isTrue_47 : decode cX15_isTrue 47 = .ok (.goto (-45), 3) := dk_167 255 211 (dk_at dksX15_isTrue_2 3 rfl rfl)
theorem dX15_isTrue_50 : decode cX15_isTrue 50 = .ok (.aload_n 0, 1) := dk_42 (dk_at dksX15_isTrue_2 6 rfl rfl)
theorem dX15_isTrue_51 : decode cX15_isTrue 51 = .ok (.getfield 16, 3) := dk_180 0 16 (dk_at dksX15_isTrue_2 7 rfl rfl)
theorem dX15_isTrue_54 : decode cX15_isTrue 54 = .ok (.ifCond .ne 7, 3) := dk_154 0 7 (dk_at dksX15_isTrue_2 10 rfl rfl)
theorem dX15_isTrue_57 : decode cX15_isTrue 57 = .ok (.iconst 1, 1) := dk_4 (dk_at dksX15_isTrue_2 13 rfl rfl)
theorem dX15_isTrue_58 : decode cX15_isTrue 58 = .ok (.goto 4, 3) := dk_167 0 4 (dk_at dksX15_isTrue_2 14 rfl rfl)
theorem dX15_isTrue_61 : decode cX15_isTrue 61 = .ok (.iconst 0, 1) := dk_3 (dk_at dksX15_isTrue_2 17 rfl rfl)
theorem dX15_isTrue_62 : decode cX15_isTrue 62 = .ok (.ireturn, 1) := dk_172 (dk_at dksX15_isTrue_2 18 rfl rfl)
theorem q160 : (Jvm.Cond.initialized "CoverHouse$Many") ∈ lw_all := lw_g (lw_at lw_m1 33 rfl) rfl
theorem q368 : (Jvm.Cond.selects "CoverHouse$Many" ({ cls := "java/lang/Object", name := "getClass", desc := "()Ljava/lang/Class;" } : Jvm.MethodName) ({ cls := "java/lang/Object", name := "getClass", desc := "()Ljava/lang/Class;" } : Jvm.MethodName)) ∈ lw_all := lw_g (lw_at lw_m2 1 rfl) rfl
theorem q1011 : (Jvm.Cond.instantiable "CoverHouse$Many" (2 : Nat)) ∈ lw_all := lw_g (lw_at lw_m4 164 rfl) rfl
theorem q1013 : (Jvm.Cond.instanceMethod ({ cls := "CoverHouse$Many", name := "<init>", desc := "(Z)V" } : Jvm.MethodName)) ∈ lw_all := lw_g (lw_at lw_m4 166 rfl) rfl
theorem q1014 : (Jvm.Cond.code ({ cls := "CoverHouse$Many", name := "<init>", desc := "(Z)V" } : Jvm.MethodName) prog_12_method_1_code (2 : Nat) (Option.none : Option Jvm.ClassFile.FieldType)) ∈ lw_all := lw_g (lw_at lw_m4 167 rfl) rfl
theorem q1015 : (Jvm.Cond.methodLinkNest "CoverHouse$Many" (1 : Nat) ({ cls := "CoverHouse$Cond", name := "<init>", desc := "()V" } : Jvm.MethodName) "CoverHouse") ∈ lw_tbl := lw_at lw_m4 168 rfl
theorem q1016 : (Jvm.Cond.classLink "CoverHouse$Many" (7 : Nat) "java/util/ArrayList") ∈ lw_all := lw_g (lw_at lw_m4 169 rfl) rfl
theorem q1017 : (Jvm.Cond.methodLink "CoverHouse$Many" (9 : Nat) ({ cls := "java/util/ArrayList", name := "<init>", desc := "()V" } : Jvm.MethodName)) ∈ lw_all := lw_g (lw_at lw_m4 170 rfl) rfl
theorem q1018 : (Jvm.Cond.fieldLink "CoverHouse$Many" (16 : Nat) "CoverHouse$Many" "isOr" "Z") ∈ lw_all := lw_g (lw_at lw_m4 171 rfl) rfl
theorem q1019 : (Jvm.Cond.fieldLink "CoverHouse$Many" (10 : Nat) "CoverHouse$Many" "parts" "Ljava/util/List;") ∈ lw_all := lw_g (lw_at lw_m4 172 rfl) rfl
theorem q1021 : (Jvm.Cond.laysFinal "CoverHouse$Many" "CoverHouse$Many" "isOr" "Z") ∈ lw_all := lw_g (lw_at lw_m4 174 rfl) rfl
theorem q1022 : (Jvm.Cond.soleField "CoverHouse$Many" "isOr") ∈ lw_all := lw_g (lw_at lw_m4 175 rfl) rfl
theorem q1023 : (Jvm.Cond.laysFinal "CoverHouse$Many" "CoverHouse$Many" "parts" "Ljava/util/List;") ∈ lw_all := lw_g (lw_at lw_m4 176 rfl) rfl
theorem q1024 : (Jvm.Cond.soleField "CoverHouse$Many" "parts") ∈ lw_all := lw_g (lw_at lw_m4 177 rfl) rfl
theorem q1025 : (Jvm.Cond.superclass "CoverHouse$Many" "CoverHouse$Cond") ∈ lw_all := lw_g (lw_at lw_m4 178 rfl) rfl
theorem q1155 : (Jvm.Cond.selects "CoverHouse$Many" ({ cls := "CoverHouse$Cond", name := "part", desc := "(ILCoverHouse$Starts;)V" } : Jvm.MethodName) ({ cls := "CoverHouse$Many", name := "part", desc := "(ILCoverHouse$Starts;)V" } : Jvm.MethodName)) ∈ lw_all := lw_g (lw_at lw_m5 68 rfl) rfl
theorem q1156 : (Jvm.Cond.instanceMethod ({ cls := "CoverHouse$Many", name := "part", desc := "(ILCoverHouse$Starts;)V" } : Jvm.MethodName)) ∈ lw_all := lw_g (lw_at lw_m5 69 rfl) rfl
theorem q1157 : (Jvm.Cond.code ({ cls := "CoverHouse$Many", name := "part", desc := "(ILCoverHouse$Starts;)V" } : Jvm.MethodName) prog_12_method_3_code (4 : Nat) (Option.none : Option Jvm.ClassFile.FieldType)) ∈ lw_all := lw_g (lw_at lw_m5 70 rfl) rfl
theorem q1158 : (Jvm.Cond.interfaceEntry "CoverHouse$Many" (20 : Nat)) ∈ lw_tbl := lw_at lw_m5 71 rfl
theorem q1159 : (Jvm.Cond.methodLink "CoverHouse$Many" (20 : Nat) ({ cls := "java/util/List", name := "size", desc := "()I" } : Jvm.MethodName)) ∈ lw_all := lw_g (lw_at lw_m5 72 rfl) rfl
theorem q1160 : (Jvm.Cond.interfaceEntry "CoverHouse$Many" (26 : Nat)) ∈ lw_tbl := lw_at lw_m5 73 rfl
theorem q1161 : (Jvm.Cond.methodLink "CoverHouse$Many" (26 : Nat) ({ cls := "java/util/List", name := "get", desc := "(I)Ljava/lang/Object;" } : Jvm.MethodName)) ∈ lw_all := lw_g (lw_at lw_m5 74 rfl) rfl
theorem q1162 : (Jvm.Cond.classLink "CoverHouse$Many" (2 : Nat) "CoverHouse$Cond") ∈ lw_all := lw_g (lw_at lw_m5 75 rfl) rfl
theorem q1163 : (Jvm.Cond.methodLink "CoverHouse$Many" (34 : Nat) ({ cls := "CoverHouse$Cond", name := "part", desc := "(ILCoverHouse$Starts;)V" } : Jvm.MethodName)) ∈ lw_all := lw_g (lw_at lw_m5 76 rfl) rfl
theorem q1219 : (Jvm.Cond.selects "CoverHouse$Many" ({ cls := "CoverHouse$Cond", name := "isTrue", desc := "(LCoverHouse$Full;)Z" } : Jvm.MethodName) ({ cls := "CoverHouse$Many", name := "isTrue", desc := "(LCoverHouse$Full;)Z" } : Jvm.MethodName)) ∈ lw_all := lw_g (lw_at lw_m5 132 rfl) rfl
theorem q1220 : (Jvm.Cond.instanceMethod ({ cls := "CoverHouse$Many", name := "isTrue", desc := "(LCoverHouse$Full;)Z" } : Jvm.MethodName)) ∈ lw_all := lw_g (lw_at lw_m5 133 rfl) rfl
theorem q1221 : (Jvm.Cond.code ({ cls := "CoverHouse$Many", name := "isTrue", desc := "(LCoverHouse$Full;)Z" } : Jvm.MethodName) prog_12_method_2_code (3 : Nat) (Option.some Jvm.ClassFile.FieldType.boolean)) ∈ lw_all := lw_g (lw_at lw_m5 134 rfl) rfl
theorem q1222 : (Jvm.Cond.methodLink "CoverHouse$Many" (30 : Nat) ({ cls := "CoverHouse$Cond", name := "isTrue", desc := "(LCoverHouse$Full;)Z" } : Jvm.MethodName)) ∈ lw_all := lw_g (lw_at lw_m5 135 rfl) rfl
theorem q2685 : (Jvm.Cond.castable "CoverHouse$Many" "CoverHouse$Cond") ∈ lw_tbl := lw_at lw_m11 158 rfl
theorem q2710 : (Jvm.Cond.castable "CoverHouse$Many" "java/lang/Object") ∈ lw_tbl := lw_at lw_m11 183 rfl
theorem in_X15 : ∀ w ∈ wsX150, w ∈ lw_all := lw_in wsX150 [1021, 1023] (by decide +kernel) (by decide +kernel)

/-! CoverHouse$Clause -/
set_option maxRecDepth 100000
def RX16 : String := "CoverHouse$Clause"
def TX16 : u_T := fun k => match k with
  | 0 => ("CoverHouse$Clause", "kind", "I", true)
  | 1 => ("CoverHouse$Clause", "cond", "LCoverHouse$Cond;", true)
  | _ => ("CoverHouse$Clause", "nodes", "I", true)
def tyX16 : Nat → FieldType := fun k => match k with
  | 0 => .int
  | 1 => .object "CoverHouse$Cond"
  | _ => .int
abbrev wsX160 : List Cond := u_ws RX16 TX16 3
theorem nmX16 : ∀ a, a < 3 → ∀ b, b < 3 → a ≠ b → (TX16 a).2.1 ≠ (TX16 b).2.1 := by decide +kernel
theorem tyX16_ok : ∀ k, k < 3 → parseFieldDescriptor (TX16 k).2.2.1 = some (tyX16 k) := by decide +kernel
abbrev cX16_init : ByteArray := prog_3_method_1_code
def yX16_init : MethodName := ⟨RX16, "<init>", "(ILCoverHouse$Cond;I)V"⟩
def dkwX16_init_0 : List UInt8 := [42, 183, 0, 1, 42, 27, 181, 0, 7, 42, 44, 181, 0, 13, 42, 29, 181, 0, 17, 177]
abbrev dktX16_init_0 : List UInt8 := dkwX16_init_0 ++ []
theorem dksX16_init_0 : cX16_init.data.toList.drop 0 = dktX16_init_0 := by decide +kernel
theorem dX16_init_0 : decode cX16_init 0 = .ok (.aload_n 0, 1) := dk_42 (dk_at dksX16_init_0 0 rfl rfl)
theorem dX16_init_1 : decode cX16_init 1 = .ok (.invokespecial 1, 3) := dk_183 0 1 (dk_at dksX16_init_0 1 rfl rfl)
theorem dX16_init_4 : decode cX16_init 4 = .ok (.aload_n 0, 1) := dk_42 (dk_at dksX16_init_0 4 rfl rfl)
theorem dX16_init_5 : decode cX16_init 5 = .ok (.iload_n 1, 1) := dk_27 (dk_at dksX16_init_0 5 rfl rfl)
theorem dX16_init_6 : decode cX16_init 6 = .ok (.putfield 7, 3) := dk_181 0 7 (dk_at dksX16_init_0 6 rfl rfl)
theorem dX16_init_9 : decode cX16_init 9 = .ok (.aload_n 0, 1) := dk_42 (dk_at dksX16_init_0 9 rfl rfl)
theorem dX16_init_10 : decode cX16_init 10 = .ok (.aload_n 2, 1) := dk_44 (dk_at dksX16_init_0 10 rfl rfl)
theorem dX16_init_11 : decode cX16_init 11 = .ok (.putfield 13, 3) := dk_181 0 13 (dk_at dksX16_init_0 11 rfl rfl)
theorem dX16_init_14 : decode cX16_init 14 = .ok (.aload_n 0, 1) := dk_42 (dk_at dksX16_init_0 14 rfl rfl)
theorem dX16_init_15 : decode cX16_init 15 = .ok (.iload_n 3, 1) := dk_29 (dk_at dksX16_init_0 15 rfl rfl)
theorem dX16_init_16 : decode cX16_init 16 = .ok (.putfield 17, 3) := dk_181 0 17 (dk_at dksX16_init_0 16 rfl rfl)
theorem dX16_init_19 : decode cX16_init 19 = .ok (.return_, 1) := dk_177 (dk_at dksX16_init_0 19 rfl rfl)
theorem q164 : (Jvm.Cond.initialized "CoverHouse$Clause") ∈ lw_all := lw_g (lw_at lw_m1 37 rfl) rfl
theorem q360 : (Jvm.Cond.selects "CoverHouse$Clause" ({ cls := "java/lang/Object", name := "getClass", desc := "()Ljava/lang/Class;" } : Jvm.MethodName) ({ cls := "java/lang/Object", name := "getClass", desc := "()Ljava/lang/Class;" } : Jvm.MethodName)) ∈ lw_all := lw_g (lw_at lw_m1 233 rfl) rfl
theorem q1058 : (Jvm.Cond.instantiable "CoverHouse$Clause" (3 : Nat)) ∈ lw_all := lw_g (lw_at lw_m4 211 rfl) rfl
theorem q1060 : (Jvm.Cond.instanceMethod ({ cls := "CoverHouse$Clause", name := "<init>", desc := "(ILCoverHouse$Cond;I)V" } : Jvm.MethodName)) ∈ lw_all := lw_g (lw_at lw_m4 213 rfl) rfl
theorem q1061 : (Jvm.Cond.code ({ cls := "CoverHouse$Clause", name := "<init>", desc := "(ILCoverHouse$Cond;I)V" } : Jvm.MethodName) prog_3_method_1_code (4 : Nat) (Option.none : Option Jvm.ClassFile.FieldType)) ∈ lw_all := lw_g (lw_at lw_m4 214 rfl) rfl
theorem q1062 : (Jvm.Cond.methodLink "CoverHouse$Clause" (1 : Nat) ({ cls := "java/lang/Object", name := "<init>", desc := "()V" } : Jvm.MethodName)) ∈ lw_all := lw_g (lw_at lw_m4 215 rfl) rfl
theorem q1063 : (Jvm.Cond.fieldLink "CoverHouse$Clause" (7 : Nat) "CoverHouse$Clause" "kind" "I") ∈ lw_all := lw_g (lw_at lw_m4 216 rfl) rfl
theorem q1066 : (Jvm.Cond.fieldLink "CoverHouse$Clause" (13 : Nat) "CoverHouse$Clause" "cond" "LCoverHouse$Cond;") ∈ lw_all := lw_g (lw_at lw_m4 219 rfl) rfl
theorem q1068 : (Jvm.Cond.fieldLink "CoverHouse$Clause" (17 : Nat) "CoverHouse$Clause" "nodes" "I") ∈ lw_all := lw_g (lw_at lw_m4 221 rfl) rfl
theorem q1070 : (Jvm.Cond.laysFinal "CoverHouse$Clause" "CoverHouse$Clause" "kind" "I") ∈ lw_all := lw_g (lw_at lw_m4 223 rfl) rfl
theorem q1071 : (Jvm.Cond.soleField "CoverHouse$Clause" "kind") ∈ lw_all := lw_g (lw_at lw_m4 224 rfl) rfl
theorem q1072 : (Jvm.Cond.laysFinal "CoverHouse$Clause" "CoverHouse$Clause" "cond" "LCoverHouse$Cond;") ∈ lw_all := lw_g (lw_at lw_m4 225 rfl) rfl
theorem q1073 : (Jvm.Cond.soleField "CoverHouse$Clause" "cond") ∈ lw_all := lw_g (lw_at lw_m4 226 rfl) rfl
theorem q1074 : (Jvm.Cond.laysFinal "CoverHouse$Clause" "CoverHouse$Clause" "nodes" "I") ∈ lw_all := lw_g (lw_at lw_m4 227 rfl) rfl
theorem q1075 : (Jvm.Cond.soleField "CoverHouse$Clause" "nodes") ∈ lw_all := lw_g (lw_at lw_m4 228 rfl) rfl
theorem q1076 : (Jvm.Cond.superclass "CoverHouse$Clause" "java/lang/Object") ∈ lw_all := lw_g (lw_at lw_m4 229 rfl) rfl
theorem q2712 : (Jvm.Cond.castable "CoverHouse$Clause" "java/lang/Object") ∈ lw_tbl := lw_at lw_m11 185 rfl
theorem in_X16 : ∀ w ∈ wsX160, w ∈ lw_all := lw_in wsX160 [1070, 1072, 1074] (by decide +kernel) (by decide +kernel)

/-! CoverHouse$PriceRow -/
set_option maxRecDepth 100000
def RX17 : String := "CoverHouse$PriceRow"
def TX17 : u_T := fun k => match k with
  | 0 => ("CoverHouse$PriceRow", "kind", "I", true)
  | 1 => ("CoverHouse$PriceRow", "number", "I", true)
  | _ => ("CoverHouse$PriceRow", "cond", "LCoverHouse$Cond;", true)
def tyX17 : Nat → FieldType := fun k => match k with
  | 0 => .int
  | 1 => .int
  | _ => .object "CoverHouse$Cond"
abbrev wsX170 : List Cond := u_ws RX17 TX17 3
theorem nmX17 : ∀ a, a < 3 → ∀ b, b < 3 → a ≠ b → (TX17 a).2.1 ≠ (TX17 b).2.1 := by decide +kernel
theorem tyX17_ok : ∀ k, k < 3 → parseFieldDescriptor (TX17 k).2.2.1 = some (tyX17 k) := by decide +kernel
abbrev cX17_init : ByteArray := prog_17_method_1_code
def yX17_init : MethodName := ⟨RX17, "<init>", "(IILCoverHouse$Cond;)V"⟩
def dkwX17_init_0 : List UInt8 := [42, 183, 0, 1, 42, 27, 181, 0, 7, 42, 28, 181, 0, 13, 42, 45, 181, 0, 16, 177]
abbrev dktX17_init_0 : List UInt8 := dkwX17_init_0 ++ []
theorem dksX17_init_0 : cX17_init.data.toList.drop 0 = dktX17_init_0 := by decide +kernel
theorem dX17_init_0 : decode cX17_init 0 = .ok (.aload_n 0, 1) := dk_42 (dk_at dksX17_init_0 0 rfl rfl)
theorem dX17_init_1 : decode cX17_init 1 = .ok (.invokespecial 1, 3) := dk_183 0 1 (dk_at dksX17_init_0 1 rfl rfl)
theorem dX17_init_4 : decode cX17_init 4 = .ok (.aload_n 0, 1) := dk_42 (dk_at dksX17_init_0 4 rfl rfl)
theorem dX17_init_5 : decode cX17_init 5 = .ok (.iload_n 1, 1) := dk_27 (dk_at dksX17_init_0 5 rfl rfl)
theorem dX17_init_6 : decode cX17_init 6 = .ok (.putfield 7, 3) := dk_181 0 7 (dk_at dksX17_init_0 6 rfl rfl)
theorem dX17_init_9 : decode cX17_init 9 = .ok (.aload_n 0, 1) := dk_42 (dk_at dksX17_init_0 9 rfl rfl)
theorem dX17_init_10 : decode cX17_init 10 = .ok (.iload_n 2, 1) := dk_28 (dk_at dksX17_init_0 10 rfl rfl)
theorem dX17_init_11 : decode cX17_init 11 = .ok (.putfield 13, 3) := dk_181 0 13 (dk_at dksX17_init_0 11 rfl rfl)
theorem dX17_init_14 : decode cX17_init 14 = .ok (.aload_n 0, 1) := dk_42 (dk_at dksX17_init_0 14 rfl rfl)
theorem dX17_init_15 : decode cX17_init 15 = .ok (.aload_n 3, 1) := dk_45 (dk_at dksX17_init_0 15 rfl rfl)
theorem dX17_init_16 : decode cX17_init 16 = .ok (.putfield 16, 3) := dk_181 0 16 (dk_at dksX17_init_0 16 rfl rfl)
theorem dX17_init_19 : decode cX17_init 19 = .ok (.return_, 1) := dk_177 (dk_at dksX17_init_0 19 rfl rfl)
theorem q165 : (Jvm.Cond.initialized "CoverHouse$PriceRow") ∈ lw_all := lw_g (lw_at lw_m1 38 rfl) rfl
theorem q373 : (Jvm.Cond.selects "CoverHouse$PriceRow" ({ cls := "java/lang/Object", name := "getClass", desc := "()Ljava/lang/Class;" } : Jvm.MethodName) ({ cls := "java/lang/Object", name := "getClass", desc := "()Ljava/lang/Class;" } : Jvm.MethodName)) ∈ lw_all := lw_g (lw_at lw_m2 6 rfl) rfl
theorem q1113 : (Jvm.Cond.instantiable "CoverHouse$PriceRow" (3 : Nat)) ∈ lw_all := lw_g (lw_at lw_m5 26 rfl) rfl
theorem q1115 : (Jvm.Cond.instanceMethod ({ cls := "CoverHouse$PriceRow", name := "<init>", desc := "(IILCoverHouse$Cond;)V" } : Jvm.MethodName)) ∈ lw_all := lw_g (lw_at lw_m5 28 rfl) rfl
theorem q1116 : (Jvm.Cond.code ({ cls := "CoverHouse$PriceRow", name := "<init>", desc := "(IILCoverHouse$Cond;)V" } : Jvm.MethodName) prog_17_method_1_code (4 : Nat) (Option.none : Option Jvm.ClassFile.FieldType)) ∈ lw_all := lw_g (lw_at lw_m5 29 rfl) rfl
theorem q1117 : (Jvm.Cond.methodLink "CoverHouse$PriceRow" (1 : Nat) ({ cls := "java/lang/Object", name := "<init>", desc := "()V" } : Jvm.MethodName)) ∈ lw_all := lw_g (lw_at lw_m5 30 rfl) rfl
theorem q1118 : (Jvm.Cond.fieldLink "CoverHouse$PriceRow" (7 : Nat) "CoverHouse$PriceRow" "kind" "I") ∈ lw_all := lw_g (lw_at lw_m5 31 rfl) rfl
theorem q1121 : (Jvm.Cond.fieldLink "CoverHouse$PriceRow" (13 : Nat) "CoverHouse$PriceRow" "number" "I") ∈ lw_all := lw_g (lw_at lw_m5 34 rfl) rfl
theorem q1123 : (Jvm.Cond.fieldLink "CoverHouse$PriceRow" (16 : Nat) "CoverHouse$PriceRow" "cond" "LCoverHouse$Cond;") ∈ lw_all := lw_g (lw_at lw_m5 36 rfl) rfl
theorem q1126 : (Jvm.Cond.laysFinal "CoverHouse$PriceRow" "CoverHouse$PriceRow" "kind" "I") ∈ lw_all := lw_g (lw_at lw_m5 39 rfl) rfl
theorem q1127 : (Jvm.Cond.soleField "CoverHouse$PriceRow" "kind") ∈ lw_all := lw_g (lw_at lw_m5 40 rfl) rfl
theorem q1128 : (Jvm.Cond.laysFinal "CoverHouse$PriceRow" "CoverHouse$PriceRow" "number" "I") ∈ lw_all := lw_g (lw_at lw_m5 41 rfl) rfl
theorem q1129 : (Jvm.Cond.soleField "CoverHouse$PriceRow" "number") ∈ lw_all := lw_g (lw_at lw_m5 42 rfl) rfl
theorem q1130 : (Jvm.Cond.laysFinal "CoverHouse$PriceRow" "CoverHouse$PriceRow" "cond" "LCoverHouse$Cond;") ∈ lw_all := lw_g (lw_at lw_m5 43 rfl) rfl
theorem q1131 : (Jvm.Cond.soleField "CoverHouse$PriceRow" "cond") ∈ lw_all := lw_g (lw_at lw_m5 44 rfl) rfl
theorem q1132 : (Jvm.Cond.superclass "CoverHouse$PriceRow" "java/lang/Object") ∈ lw_all := lw_g (lw_at lw_m5 45 rfl) rfl
theorem q2713 : (Jvm.Cond.castable "CoverHouse$PriceRow" "java/lang/Object") ∈ lw_tbl := lw_at lw_m11 186 rfl
theorem in_X17 : ∀ w ∈ wsX170, w ∈ lw_all := lw_in wsX170 [1126, 1128, 1130] (by decide +kernel) (by decide +kernel)

/-! CoverHouse$Event -/
set_option maxRecDepth 100000
def RX18 : String := "CoverHouse$Event"
def TX18 : u_T := fun k => match k with
  | 0 => ("CoverHouse$Event", "wording", "LCoverHouse$Wording;", true)
  | _ => ("CoverHouse$Event", "facts", "Ljava/util/List;", true)
def tyX18 : Nat → FieldType := fun k => match k with
  | 0 => .object "CoverHouse$Wording"
  | _ => .object "java/util/List"
abbrev wsX180 : List Cond := u_ws RX18 TX18 2
theorem nmX18 : ∀ a, a < 2 → ∀ b, b < 2 → a ≠ b → (TX18 a).2.1 ≠ (TX18 b).2.1 := by decide +kernel
theorem tyX18_ok : ∀ k, k < 2 → parseFieldDescriptor (TX18 k).2.2.1 = some (tyX18 k) := by decide +kernel
abbrev cX18_init : ByteArray := prog_5_method_1_code
def yX18_init : MethodName := ⟨RX18, "<init>", "(LCoverHouse$Wording;)V"⟩
def dkwX18_init_2 : List UInt8 := [185, 0, 34, 2, 0, 87, 132, 2, 1, 167, 255, 221, 177]
abbrev dktX18_init_2 : List UInt8 := dkwX18_init_2 ++ []
def dkwX18_init_1 : List UInt8 := [180, 0, 20, 185, 0, 23, 1, 0, 162, 0, 28, 42, 180, 0, 10, 187, 0, 29, 89, 16, 6, 183, 0, 31]
abbrev dktX18_init_1 : List UInt8 := dkwX18_init_1 ++ dktX18_init_2
def dkwX18_init_0 : List UInt8 := [42, 183, 0, 1, 42, 187, 0, 7, 89, 183, 0, 9, 181, 0, 10, 42, 43, 181, 0, 16, 3, 61, 28, 43]
abbrev dktX18_init_0 : List UInt8 := dkwX18_init_0 ++ dktX18_init_1
theorem dksX18_init_0 : cX18_init.data.toList.drop 0 = dktX18_init_0 := by decide +kernel
theorem dksX18_init_1 : cX18_init.data.toList.drop 24 = dktX18_init_1 := dk_seg dksX18_init_0 24 rfl rfl
theorem dksX18_init_2 : cX18_init.data.toList.drop 48 = dktX18_init_2 := dk_seg dksX18_init_1 24 rfl rfl
theorem dX18_init_0 : decode cX18_init 0 = .ok (.aload_n 0, 1) := dk_42 (dk_at dksX18_init_0 0 rfl rfl)
theorem dX18_init_1 : decode cX18_init 1 = .ok (.invokespecial 1, 3) := dk_183 0 1 (dk_at dksX18_init_0 1 rfl rfl)
theorem dX18_init_4 : decode cX18_init 4 = .ok (.aload_n 0, 1) := dk_42 (dk_at dksX18_init_0 4 rfl rfl)
theorem dX18_init_5 : decode cX18_init 5 = .ok (.new 7, 3) := dk_187 0 7 (dk_at dksX18_init_0 5 rfl rfl)
theorem dX18_init_8 : decode cX18_init 8 = .ok (.dup, 1) := dk_89 (dk_at dksX18_init_0 8 rfl rfl)
theorem dX18_init_9 : decode cX18_init 9 = .ok (.invokespecial 9, 3) := dk_183 0 9 (dk_at dksX18_init_0 9 rfl rfl)
theorem dX18_init_12 : decode cX18_init 12 = .ok (.putfield 10, 3) := dk_181 0 10 (dk_at dksX18_init_0 12 rfl rfl)
theorem dX18_init_15 : decode cX18_init 15 = .ok (.aload_n 0, 1) := dk_42 (dk_at dksX18_init_0 15 rfl rfl)
theorem dX18_init_16 : decode cX18_init 16 = .ok (.aload_n 1, 1) := dk_43 (dk_at dksX18_init_0 16 rfl rfl)
theorem dX18_init_17 : decode cX18_init 17 = .ok (.putfield 16, 3) := dk_181 0 16 (dk_at dksX18_init_0 17 rfl rfl)
theorem dX18_init_20 : decode cX18_init 20 = .ok (.iconst 0, 1) := dk_3 (dk_at dksX18_init_0 20 rfl rfl)
theorem dX18_init_21 : decode cX18_init 21 = .ok (.istore_n 2, 1) := dk_61 (dk_at dksX18_init_0 21 rfl rfl)
theorem dX18_init_22 : decode cX18_init 22 = .ok (.iload_n 2, 1) := dk_28 (dk_at dksX18_init_0 22 rfl rfl)
theorem dX18_init_23 : decode cX18_init 23 = .ok (.aload_n 1, 1) := dk_43 (dk_at dksX18_init_0 23 rfl rfl)
theorem dX18_init_24 : decode cX18_init 24 = .ok (.getfield 20, 3) := dk_180 0 20 (dk_at dksX18_init_1 0 rfl rfl)
theorem dX18_init_27 : decode cX18_init 27 = .ok (.invokeinterface 23 1, 5) := by decide +kernel
theorem dX18_init_32 : decode cX18_init 32 = .ok (.if_icmp .ge 28, 3) := dk_162 0 28 (dk_at dksX18_init_1 8 rfl rfl)
theorem dX18_init_35 : decode cX18_init 35 = .ok (.aload_n 0, 1) := dk_42 (dk_at dksX18_init_1 11 rfl rfl)
theorem dX18_init_36 : decode cX18_init 36 = .ok (.getfield 10, 3) := dk_180 0 10 (dk_at dksX18_init_1 12 rfl rfl)
theorem dX18_init_39 : decode cX18_init 39 = .ok (.new 29, 3) := dk_187 0 29 (dk_at dksX18_init_1 15 rfl rfl)
theorem dX18_init_42 : decode cX18_init 42 = .ok (.dup, 1) := dk_89 (dk_at dksX18_init_1 18 rfl rfl)
theorem dX18_init_43 : decode cX18_init 43 = .ok (.bipush 6, 2) := dk_16 6 (dk_at dksX18_init_1 19 rfl rfl)
theorem dX18_init_45 : decode cX18_init 45 = .ok (.invokespecial 31, 3) := dk_183 0 31 (dk_at dksX18_init_1 21 rfl rfl)
theorem dX18_init_48 : decode cX18_init 48 = .ok (.invokeinterface 34 2, 5) := by decide +kernel
theorem dX18_init_53 : decode cX18_init 53 = .ok (.pop, 1) := dk_87 (dk_at dksX18_init_2 5 rfl rfl)
theorem dX18_init_54 : decode cX18_init 54 = .ok (.iinc 2 1, 3) := dk_132 2 1 (dk_at dksX18_init_2 6 rfl rfl)
theorem dX18_init_57 : decode cX18_init 57 = .ok (.goto (-35), 3) := dk_167 255 221 (dk_at dksX18_init_2 9 rfl rfl)
theorem dX18_init_60 : decode cX18_init 60 = .ok (.return_, 1) := dk_177 (dk_at dksX18_init_2 12 rfl rfl)
theorem q166 : (Jvm.Cond.initialized "CoverHouse$Event") ∈ lw_all := lw_g (lw_at lw_m1 39 rfl) rfl
theorem q361 : (Jvm.Cond.selects "CoverHouse$Event" ({ cls := "java/lang/Object", name := "getClass", desc := "()Ljava/lang/Class;" } : Jvm.MethodName) ({ cls := "java/lang/Object", name := "getClass", desc := "()Ljava/lang/Class;" } : Jvm.MethodName)) ∈ lw_all := lw_g (lw_at lw_m1 234 rfl) rfl
theorem q573 : (Jvm.Cond.fieldLinkNest "CoverHouse$Event" (20 : Nat) "CoverHouse$Wording" "facts" "Ljava/util/List;" "CoverHouse") ∈ lw_tbl := lw_at lw_m2 206 rfl
theorem q1424 : (Jvm.Cond.instantiable "CoverHouse$Event" (2 : Nat)) ∈ lw_all := lw_g (lw_at lw_m6 97 rfl) rfl
theorem q1426 : (Jvm.Cond.instanceMethod ({ cls := "CoverHouse$Event", name := "<init>", desc := "(LCoverHouse$Wording;)V" } : Jvm.MethodName)) ∈ lw_all := lw_g (lw_at lw_m6 99 rfl) rfl
theorem q1427 : (Jvm.Cond.code ({ cls := "CoverHouse$Event", name := "<init>", desc := "(LCoverHouse$Wording;)V" } : Jvm.MethodName) prog_5_method_1_code (3 : Nat) (Option.none : Option Jvm.ClassFile.FieldType)) ∈ lw_all := lw_g (lw_at lw_m6 100 rfl) rfl
theorem q1428 : (Jvm.Cond.methodLink "CoverHouse$Event" (1 : Nat) ({ cls := "java/lang/Object", name := "<init>", desc := "()V" } : Jvm.MethodName)) ∈ lw_all := lw_g (lw_at lw_m6 101 rfl) rfl
theorem q1429 : (Jvm.Cond.classLink "CoverHouse$Event" (7 : Nat) "java/util/ArrayList") ∈ lw_all := lw_g (lw_at lw_m6 102 rfl) rfl
theorem q1430 : (Jvm.Cond.methodLink "CoverHouse$Event" (9 : Nat) ({ cls := "java/util/ArrayList", name := "<init>", desc := "()V" } : Jvm.MethodName)) ∈ lw_all := lw_g (lw_at lw_m6 103 rfl) rfl
theorem q1431 : (Jvm.Cond.interfaceEntry "CoverHouse$Event" (23 : Nat)) ∈ lw_tbl := lw_at lw_m6 104 rfl
theorem q1432 : (Jvm.Cond.methodLink "CoverHouse$Event" (23 : Nat) ({ cls := "java/util/List", name := "size", desc := "()I" } : Jvm.MethodName)) ∈ lw_all := lw_g (lw_at lw_m6 105 rfl) rfl
theorem q1433 : (Jvm.Cond.classLink "CoverHouse$Event" (29 : Nat) "CoverHouse$Known") ∈ lw_all := lw_g (lw_at lw_m6 106 rfl) rfl
theorem q1435 : (Jvm.Cond.methodLink "CoverHouse$Event" (31 : Nat) ({ cls := "CoverHouse$Known", name := "<init>", desc := "(I)V" } : Jvm.MethodName)) ∈ lw_all := lw_g (lw_at lw_m6 108 rfl) rfl
theorem q1450 : (Jvm.Cond.interfaceEntry "CoverHouse$Event" (34 : Nat)) ∈ lw_tbl := lw_at lw_m6 123 rfl
theorem q1451 : (Jvm.Cond.methodLink "CoverHouse$Event" (34 : Nat) ({ cls := "java/util/List", name := "add", desc := "(Ljava/lang/Object;)Z" } : Jvm.MethodName)) ∈ lw_all := lw_g (lw_at lw_m6 124 rfl) rfl
theorem q1452 : (Jvm.Cond.fieldLink "CoverHouse$Event" (16 : Nat) "CoverHouse$Event" "wording" "LCoverHouse$Wording;") ∈ lw_all := lw_g (lw_at lw_m6 125 rfl) rfl
theorem q1454 : (Jvm.Cond.fieldLink "CoverHouse$Event" (10 : Nat) "CoverHouse$Event" "facts" "Ljava/util/List;") ∈ lw_all := lw_g (lw_at lw_m6 127 rfl) rfl
theorem q1457 : (Jvm.Cond.laysFinal "CoverHouse$Event" "CoverHouse$Event" "wording" "LCoverHouse$Wording;") ∈ lw_all := lw_g (lw_at lw_m6 130 rfl) rfl
theorem q1458 : (Jvm.Cond.soleField "CoverHouse$Event" "wording") ∈ lw_all := lw_g (lw_at lw_m6 131 rfl) rfl
theorem q1459 : (Jvm.Cond.laysFinal "CoverHouse$Event" "CoverHouse$Event" "facts" "Ljava/util/List;") ∈ lw_all := lw_g (lw_at lw_m6 132 rfl) rfl
theorem q1460 : (Jvm.Cond.soleField "CoverHouse$Event" "facts") ∈ lw_all := lw_g (lw_at lw_m6 133 rfl) rfl
theorem q1461 : (Jvm.Cond.superclass "CoverHouse$Event" "java/lang/Object") ∈ lw_all := lw_g (lw_at lw_m6 134 rfl) rfl
theorem q2714 : (Jvm.Cond.castable "CoverHouse$Event" "java/lang/Object") ∈ lw_tbl := lw_at lw_m11 187 rfl
theorem in_X18 : ∀ w ∈ wsX180, w ∈ lw_all := lw_in wsX180 [1457, 1459] (by decide +kernel) (by decide +kernel)

/-! CoverHouse$Known -/
set_option maxRecDepth 100000
def RX19 : String := "CoverHouse$Known"
def TX19 : u_T := fun k => match k with
  | 0 => ("CoverHouse$Known", "values", "[I", true)
  | 1 => ("CoverHouse$Known", "days", "[I", true)
  | _ => ("CoverHouse$Known", "size", "I", false)
def tyX19 : Nat → FieldType := fun k => match k with
  | 0 => .array .int
  | 1 => .array .int
  | _ => .int
abbrev wsX190 : List Cond := u_ws RX19 TX19 3
theorem nmX19 : ∀ a, a < 3 → ∀ b, b < 3 → a ≠ b → (TX19 a).2.1 ≠ (TX19 b).2.1 := by decide +kernel
theorem tyX19_ok : ∀ k, k < 3 → parseFieldDescriptor (TX19 k).2.2.1 = some (tyX19 k) := by decide +kernel
abbrev cX19_init : ByteArray := prog_11_method_1_code
def yX19_init : MethodName := ⟨RX19, "<init>", "(I)V"⟩
def dkwX19_init_0 : List UInt8 := [42, 183, 0, 3, 42, 27, 188, 10, 181, 0, 9, 42, 27, 188, 10, 181, 0, 15, 177]
abbrev dktX19_init_0 : List UInt8 := dkwX19_init_0 ++ []
theorem dksX19_init_0 : cX19_init.data.toList.drop 0 = dktX19_init_0 := by decide +kernel
theorem dX19_init_0 : decode cX19_init 0 = .ok (.aload_n 0, 1) := dk_42 (dk_at dksX19_init_0 0 rfl rfl)
theorem dX19_init_1 : decode cX19_init 1 = .ok (.invokespecial 3, 3) := dk_183 0 3 (dk_at dksX19_init_0 1 rfl rfl)
theorem dX19_init_4 : decode cX19_init 4 = .ok (.aload_n 0, 1) := dk_42 (dk_at dksX19_init_0 4 rfl rfl)
theorem dX19_init_5 : decode cX19_init 5 = .ok (.iload_n 1, 1) := dk_27 (dk_at dksX19_init_0 5 rfl rfl)
theorem dX19_init_6 : decode cX19_init 6 = .ok (.newarray .int, 2) := dk_188_10 (dk_at dksX19_init_0 6 rfl rfl)
theorem dX19_init_8 : decode cX19_init 8 = .ok (.putfield 9, 3) := dk_181 0 9 (dk_at dksX19_init_0 8 rfl rfl)
theorem dX19_init_11 : decode cX19_init 11 = .ok (.aload_n 0, 1) := dk_42 (dk_at dksX19_init_0 11 rfl rfl)
theorem dX19_init_12 : decode cX19_init 12 = .ok (.iload_n 1, 1) := dk_27 (dk_at dksX19_init_0 12 rfl rfl)
theorem dX19_init_13 : decode cX19_init 13 = .ok (.newarray .int, 2) := dk_188_10 (dk_at dksX19_init_0 13 rfl rfl)
theorem dX19_init_15 : decode cX19_init 15 = .ok (.putfield 15, 3) := dk_181 0 15 (dk_at dksX19_init_0 15 rfl rfl)
theorem dX19_init_18 : decode cX19_init 18 = .ok (.return_, 1) := dk_177 (dk_at dksX19_init_0 18 rfl rfl)
abbrev cX19_add : ByteArray := prog_11_method_2_code
def yX19_add : MethodName := ⟨RX19, "add", "(II)V"⟩
def dkwX19_add_1 : List UInt8 := [181, 0, 18, 28, 79, 177]
abbrev dktX19_add_1 : List UInt8 := dkwX19_add_1 ++ []
def dkwX19_add_0 : List UInt8 := [42, 180, 0, 9, 42, 180, 0, 18, 27, 79, 42, 180, 0, 15, 42, 89, 180, 0, 18, 90, 4, 96]
abbrev dktX19_add_0 : List UInt8 := dkwX19_add_0 ++ dktX19_add_1
theorem dksX19_add_0 : cX19_add.data.toList.drop 0 = dktX19_add_0 := by decide +kernel
theorem dksX19_add_1 : cX19_add.data.toList.drop 22 = dktX19_add_1 := dk_seg dksX19_add_0 22 rfl rfl
theorem dX19_add_0 : decode cX19_add 0 = .ok (.aload_n 0, 1) := dk_42 (dk_at dksX19_add_0 0 rfl rfl)
theorem dX19_add_1 : decode cX19_add 1 = .ok (.getfield 9, 3) := dk_180 0 9 (dk_at dksX19_add_0 1 rfl rfl)
theorem dX19_add_4 : decode cX19_add 4 = .ok (.aload_n 0, 1) := dk_42 (dk_at dksX19_add_0 4 rfl rfl)
theorem dX19_add_5 : decode cX19_add 5 = .ok (.getfield 18, 3) := dk_180 0 18 (dk_at dksX19_add_0 5 rfl rfl)
theorem dX19_add_8 : decode cX19_add 8 = .ok (.iload_n 1, 1) := dk_27 (dk_at dksX19_add_0 8 rfl rfl)
theorem dX19_add_9 : decode cX19_add 9 = .ok (.iastore, 1) := dk_79 (dk_at dksX19_add_0 9 rfl rfl)
theorem dX19_add_10 : decode cX19_add 10 = .ok (.aload_n 0, 1) := dk_42 (dk_at dksX19_add_0 10 rfl rfl)
theorem dX19_add_11 : decode cX19_add 11 = .ok (.getfield 15, 3) := dk_180 0 15 (dk_at dksX19_add_0 11 rfl rfl)
theorem dX19_add_14 : decode cX19_add 14 = .ok (.aload_n 0, 1) := dk_42 (dk_at dksX19_add_0 14 rfl rfl)
theorem dX19_add_15 : decode cX19_add 15 = .ok (.dup, 1) := dk_89 (dk_at dksX19_add_0 15 rfl rfl)
theorem dX19_add_16 : decode cX19_add 16 = .ok (.getfield 18, 3) := dk_180 0 18 (dk_at dksX19_add_0 16 rfl rfl)
theorem dX19_add_19 : decode cX19_add 19 = .ok (.dup_x1, 1) := dk_90 (dk_at dksX19_add_0 19 rfl rfl)
theorem dX19_add_20 : decode cX19_add 20 = .ok (.iconst 1, 1) := dk_4 (dk_at dksX19_add_0 20 rfl rfl)
theorem dX19_add_21 : decode cX19_add 21 = .ok (.iadd, 1) := dk_96 (dk_at dksX19_add_0 21 rfl rfl)
theorem dX19_add_22 : decode cX19_add 22 = .ok (.putfield 18, 3) := dk_181 0 18 (dk_at dksX19_add_1 0 rfl rfl)
theorem dX19_add_25 : decode cX19_add 25 = .ok (.iload_n 2, 1) := dk_28 (dk_at dksX19_add_1 3 rfl rfl)
theorem dX19_add_26 : decode cX19_add 26 = .ok (.iastore, 1) := dk_79 (dk_at dksX19_add_1 4 rfl rfl)
theorem dX19_add_27 : decode cX19_add 27 = .ok (.return_, 1) := dk_177 (dk_at dksX19_add_1 5 rfl rfl)
abbrev cX19_on : ByteArray := prog_11_method_3_code
def yX19_on : MethodName := ⟨RX19, "on", "(II)I"⟩
def dkwX19_on_2 : List UInt8 := [21, 4, 62, 132, 4, 1, 167, 255, 210, 29, 156, 0, 7, 28, 167, 0, 9, 42, 180, 0, 9, 29, 46, 172]
abbrev dktX19_on_2 : List UInt8 := dkwX19_on_2 ++ []
def dkwX19_on_1 : List UInt8 := [163, 0, 26, 29, 155, 0, 19, 42, 180, 0, 15, 21, 4, 46, 42, 180, 0, 15, 29, 46, 161, 0, 6]
abbrev dktX19_on_1 : List UInt8 := dkwX19_on_1 ++ dktX19_on_2
def dkwX19_on_0 : List UInt8 := [2, 62, 3, 54, 4, 21, 4, 42, 180, 0, 18, 162, 0, 43, 42, 180, 0, 15, 21, 4, 46, 27]
abbrev dktX19_on_0 : List UInt8 := dkwX19_on_0 ++ dktX19_on_1
theorem dksX19_on_0 : cX19_on.data.toList.drop 0 = dktX19_on_0 := by decide +kernel
theorem dksX19_on_1 : cX19_on.data.toList.drop 22 = dktX19_on_1 := dk_seg dksX19_on_0 22 rfl rfl
theorem dksX19_on_2 : cX19_on.data.toList.drop 45 = dktX19_on_2 := dk_seg dksX19_on_1 23 rfl rfl
theorem dX19_on_0 : decode cX19_on 0 = .ok (.iconst (-1), 1) := dk_2 (dk_at dksX19_on_0 0 rfl rfl)
theorem dX19_on_1 : decode cX19_on 1 = .ok (.istore_n 3, 1) := dk_62 (dk_at dksX19_on_0 1 rfl rfl)
theorem dX19_on_2 : decode cX19_on 2 = .ok (.iconst 0, 1) := dk_3 (dk_at dksX19_on_0 2 rfl rfl)
theorem dX19_on_3 : decode cX19_on 3 = .ok (.istore 4, 2) := dk_54 4 (dk_at dksX19_on_0 3 rfl rfl)
theorem dX19_on_5 : decode cX19_on 5 = .ok (.iload 4, 2) := dk_21 4 (dk_at dksX19_on_0 5 rfl rfl)
theorem dX19_on_7 : decode cX19_on 7 = .ok (.aload_n 0, 1) := dk_42 (dk_at dksX19_on_0 7 rfl rfl)
theorem dX19_on_8 : decode cX19_on 8 = .ok (.getfield 18, 3) := dk_180 0 18 (dk_at dksX19_on_0 8 rfl rfl)
theorem dX19_on_11 : decode cX19_on 11 = .ok (.if_icmp .ge 43, 3) := dk_162 0 43 (dk_at dksX19_on_0 11 rfl rfl)
theorem dX19_on_14 : decode cX19_on 14 = .ok (.aload_n 0, 1) := dk_42 (dk_at dksX19_on_0 14 rfl rfl)
theorem dX19_on_15 : decode cX19_on 15 = .ok (.getfield 15, 3) := dk_180 0 15 (dk_at dksX19_on_0 15 rfl rfl)
theorem dX19_on_18 : decode cX19_on 18 = .ok (.iload 4, 2) := dk_21 4 (dk_at dksX19_on_0 18 rfl rfl)
theorem dX19_on_20 : decode cX19_on 20 = .ok (.iaload, 1) := dk_46 (dk_at dksX19_on_0 20 rfl rfl)
theorem dX19_on_21 : decode cX19_on 21 = .ok (.iload_n 1, 1) := dk_27 (dk_at dksX19_on_0 21 rfl rfl)
theorem dX19_on_22 : decode cX19_on 22 = .ok (.if_icmp .gt 26, 3) := dk_163 0 26 (dk_at dksX19_on_1 0 rfl rfl)
theorem dX19_on_25 : decode cX19_on 25 = .ok (.iload_n 3, 1) := dk_29 (dk_at dksX19_on_1 3 rfl rfl)
theorem dX19_on_26 : decode cX19_on 26 = .ok (.ifCond .lt 19, 3) := dk_155 0 19 (dk_at dksX19_on_1 4 rfl rfl)
theorem dX19_on_29 : decode cX19_on 29 = .ok (.aload_n 0, 1) := dk_42 (dk_at dksX19_on_1 7 rfl rfl)
theorem dX19_on_30 : decode cX19_on 30 = .ok (.getfield 15, 3) := dk_180 0 15 (dk_at dksX19_on_1 8 rfl rfl)
theorem dX19_on_33 : decode cX19_on 33 = .ok (.iload 4, 2) := dk_21 4 (dk_at dksX19_on_1 11 rfl rfl)
theorem dX19_on_35 : decode cX19_on 35 = .ok (.iaload, 1) := dk_46 (dk_at dksX19_on_1 13 rfl rfl)
theorem dX19_on_36 : decode cX19_on 36 = .ok (.aload_n 0, 1) := dk_42 (dk_at dksX19_on_1 14 rfl rfl)
theorem dX19_on_37 : decode cX19_on 37 = .ok (.getfield 15, 3) := dk_180 0 15 (dk_at dksX19_on_1 15 rfl rfl)
theorem dX19_on_40 : decode cX19_on 40 = .ok (.iload_n 3, 1) := dk_29 (dk_at dksX19_on_1 18 rfl rfl)
theorem dX19_on_41 : decode cX19_on 41 = .ok (.iaload, 1) := dk_46 (dk_at dksX19_on_1 19 rfl rfl)
theorem dX19_on_42 : decode cX19_on 42 = .ok (.if_icmp .lt 6, 3) := dk_161 0 6 (dk_at dksX19_on_1 20 rfl rfl)
theorem dX19_on_45 : decode cX19_on 45 = .ok (.iload 4, 2) := dk_21 4 (dk_at dksX19_on_2 0 rfl rfl)
theorem dX19_on_47 : decode cX19_on 47 = .ok (.istore_n 3, 1) := dk_62 (dk_at dksX19_on_2 2 rfl rfl)
theorem dX19_on_48 : decode cX19_on 48 = .ok (.iinc 4 1, 3) := dk_132 4 1 (dk_at dksX19_on_2 3 rfl rfl)
theorem dX19_on_51 : decode cX19_on 51 = .ok (.goto (-46), 3) := dk_167 255 210 (dk_at dksX19_on_2 6 rfl rfl)
theorem dX19_on_54 : decode cX19_on 54 = .ok (.iload_n 3, 1) := dk_29 (dk_at dksX19_on_2 9 rfl rfl)
theorem dX19_on_55 : decode cX19_on 55 = .ok (.ifCond .ge 7, 3) := dk_156 0 7 (dk_at dksX19_on_2 10 rfl rfl)
theorem dX19_on_58 : decode cX19_on 58 = .ok (.iload_n 2, 1) := dk_28 (dk_at dksX19_on_2 13 rfl rfl)
theorem dX19_on_59 : decode cX19_on 59 = .ok (.goto 9, 3) := dk_167 0 9 (dk_at dksX19_on_2 14 rfl rfl)
theorem dX19_on_62 : decode cX19_on 62 = .ok (.aload_n 0, 1) := dk_42 (dk_at dksX19_on_2 17 rfl rfl)
theorem dX19_on_63 : decode cX19_on 63 = .ok (.getfield 9, 3) := dk_180 0 9 (dk_at dksX19_on_2 18 rfl rfl)
theorem dX19_on_66 : decode cX19_on 66 = .ok (.iload_n 3, 1) := dk_29 (dk_at dksX19_on_2 21 rfl rfl)
theorem dX19_on_67 : decode cX19_on 67 = .ok (.iaload, 1) := dk_46 (dk_at dksX19_on_2 22 rfl rfl)
theorem dX19_on_68 : decode cX19_on 68 = .ok (.ireturn, 1) := dk_172 (dk_at dksX19_on_2 23 rfl rfl)
theorem q167 : (Jvm.Cond.initialized "CoverHouse$Known") ∈ lw_all := lw_g (lw_at lw_m1 40 rfl) rfl
theorem q367 : (Jvm.Cond.selects "CoverHouse$Known" ({ cls := "java/lang/Object", name := "getClass", desc := "()Ljava/lang/Class;" } : Jvm.MethodName) ({ cls := "java/lang/Object", name := "getClass", desc := "()Ljava/lang/Class;" } : Jvm.MethodName)) ∈ lw_all := lw_g (lw_at lw_m2 0 rfl) rfl
theorem q1434 : (Jvm.Cond.instantiable "CoverHouse$Known" (3 : Nat)) ∈ lw_all := lw_g (lw_at lw_m6 107 rfl) rfl
theorem q1436 : (Jvm.Cond.instanceMethod ({ cls := "CoverHouse$Known", name := "<init>", desc := "(I)V" } : Jvm.MethodName)) ∈ lw_all := lw_g (lw_at lw_m6 109 rfl) rfl
theorem q1437 : (Jvm.Cond.code ({ cls := "CoverHouse$Known", name := "<init>", desc := "(I)V" } : Jvm.MethodName) prog_11_method_1_code (2 : Nat) (Option.none : Option Jvm.ClassFile.FieldType)) ∈ lw_all := lw_g (lw_at lw_m6 110 rfl) rfl
theorem q1438 : (Jvm.Cond.methodLink "CoverHouse$Known" (3 : Nat) ({ cls := "java/lang/Object", name := "<init>", desc := "()V" } : Jvm.MethodName)) ∈ lw_all := lw_g (lw_at lw_m6 111 rfl) rfl
theorem q1439 : (Jvm.Cond.fieldLink "CoverHouse$Known" (9 : Nat) "CoverHouse$Known" "values" "[I") ∈ lw_all := lw_g (lw_at lw_m6 112 rfl) rfl
theorem q1440 : (Jvm.Cond.fieldLink "CoverHouse$Known" (15 : Nat) "CoverHouse$Known" "days" "[I") ∈ lw_all := lw_g (lw_at lw_m6 113 rfl) rfl
theorem q1441 : (Jvm.Cond.fieldLink "CoverHouse$Known" (18 : Nat) "CoverHouse$Known" "size" "I") ∈ lw_all := lw_g (lw_at lw_m6 114 rfl) rfl
theorem q1443 : (Jvm.Cond.laysFinal "CoverHouse$Known" "CoverHouse$Known" "values" "[I") ∈ lw_all := lw_g (lw_at lw_m6 116 rfl) rfl
theorem q1444 : (Jvm.Cond.soleField "CoverHouse$Known" "values") ∈ lw_all := lw_g (lw_at lw_m6 117 rfl) rfl
theorem q1445 : (Jvm.Cond.laysFinal "CoverHouse$Known" "CoverHouse$Known" "days" "[I") ∈ lw_all := lw_g (lw_at lw_m6 118 rfl) rfl
theorem q1446 : (Jvm.Cond.soleField "CoverHouse$Known" "days") ∈ lw_all := lw_g (lw_at lw_m6 119 rfl) rfl
theorem q1447 : (Jvm.Cond.lays "CoverHouse$Known" "CoverHouse$Known" "size" "I") ∈ lw_all := lw_g (lw_at lw_m6 120 rfl) rfl
theorem q1448 : (Jvm.Cond.soleField "CoverHouse$Known" "size") ∈ lw_all := lw_g (lw_at lw_m6 121 rfl) rfl
theorem q1449 : (Jvm.Cond.superclass "CoverHouse$Known" "java/lang/Object") ∈ lw_all := lw_g (lw_at lw_m6 122 rfl) rfl
theorem q1483 : (Jvm.Cond.instanceMethod ({ cls := "CoverHouse$Known", name := "add", desc := "(II)V" } : Jvm.MethodName)) ∈ lw_all := lw_g (lw_at lw_m6 156 rfl) rfl
theorem q1484 : (Jvm.Cond.selects "CoverHouse$Known" ({ cls := "CoverHouse$Known", name := "add", desc := "(II)V" } : Jvm.MethodName) ({ cls := "CoverHouse$Known", name := "add", desc := "(II)V" } : Jvm.MethodName)) ∈ lw_all := lw_g (lw_at lw_m6 157 rfl) rfl
theorem q1485 : (Jvm.Cond.code ({ cls := "CoverHouse$Known", name := "add", desc := "(II)V" } : Jvm.MethodName) prog_11_method_2_code (3 : Nat) (Option.none : Option Jvm.ClassFile.FieldType)) ∈ lw_all := lw_g (lw_at lw_m6 158 rfl) rfl
theorem q1491 : (Jvm.Cond.instanceMethod ({ cls := "CoverHouse$Known", name := "on", desc := "(II)I" } : Jvm.MethodName)) ∈ lw_all := lw_g (lw_at lw_m6 164 rfl) rfl
theorem q1492 : (Jvm.Cond.selects "CoverHouse$Known" ({ cls := "CoverHouse$Known", name := "on", desc := "(II)I" } : Jvm.MethodName) ({ cls := "CoverHouse$Known", name := "on", desc := "(II)I" } : Jvm.MethodName)) ∈ lw_all := lw_g (lw_at lw_m6 165 rfl) rfl
theorem q1493 : (Jvm.Cond.code ({ cls := "CoverHouse$Known", name := "on", desc := "(II)I" } : Jvm.MethodName) prog_11_method_3_code (5 : Nat) (Option.some Jvm.ClassFile.FieldType.int)) ∈ lw_all := lw_g (lw_at lw_m6 166 rfl) rfl
theorem q2715 : (Jvm.Cond.castable "CoverHouse$Known" "java/lang/Object") ∈ lw_tbl := lw_at lw_m11 188 rfl
theorem in_X19 : ∀ w ∈ wsX190, w ∈ lw_all := lw_in wsX190 [1443, 1445, 1447] (by decide +kernel) (by decide +kernel)

/-! CoverHouse$Policy -/
set_option maxRecDepth 100000
def RX20 : String := "CoverHouse$Policy"
def TX20 : u_T := fun k => match k with
  | 0 => ("CoverHouse$Policy", "whats", "[I", true)
  | 1 => ("CoverHouse$Policy", "values", "[I", true)
  | 2 => ("CoverHouse$Policy", "froms", "[I", true)
  | 3 => ("CoverHouse$Policy", "knowns", "[I", true)
  | _ => ("CoverHouse$Policy", "size", "I", false)
def tyX20 : Nat → FieldType := fun k => match k with
  | 0 => .array .int
  | 1 => .array .int
  | 2 => .array .int
  | 3 => .array .int
  | _ => .int
abbrev wsX200 : List Cond := u_ws RX20 TX20 5
theorem nmX20 : ∀ a, a < 5 → ∀ b, b < 5 → a ≠ b → (TX20 a).2.1 ≠ (TX20 b).2.1 := by decide +kernel
theorem tyX20_ok : ∀ k, k < 5 → parseFieldDescriptor (TX20 k).2.2.1 = some (tyX20 k) := by decide +kernel
abbrev cX20_init : ByteArray := prog_16_method_1_code
def yX20_init : MethodName := ⟨RX20, "<init>", "()V"⟩
def dkwX20_init_1 : List UInt8 := [188, 10, 181, 0, 18, 42, 16, 24, 188, 10, 181, 0, 21, 177]
abbrev dktX20_init_1 : List UInt8 := dkwX20_init_1 ++ []
def dkwX20_init_0 : List UInt8 := [42, 183, 0, 3, 42, 16, 24, 188, 10, 181, 0, 9, 42, 16, 24, 188, 10, 181, 0, 15, 42, 16, 24]
abbrev dktX20_init_0 : List UInt8 := dkwX20_init_0 ++ dktX20_init_1
theorem dksX20_init_0 : cX20_init.data.toList.drop 0 = dktX20_init_0 := by decide +kernel
theorem dksX20_init_1 : cX20_init.data.toList.drop 23 = dktX20_init_1 := dk_seg dksX20_init_0 23 rfl rfl
theorem dX20_init_0 : decode cX20_init 0 = .ok (.aload_n 0, 1) := dk_42 (dk_at dksX20_init_0 0 rfl rfl)
theorem dX20_init_1 : decode cX20_init 1 = .ok (.invokespecial 3, 3) := dk_183 0 3 (dk_at dksX20_init_0 1 rfl rfl)
theorem dX20_init_4 : decode cX20_init 4 = .ok (.aload_n 0, 1) := dk_42 (dk_at dksX20_init_0 4 rfl rfl)
theorem dX20_init_5 : decode cX20_init 5 = .ok (.bipush 24, 2) := dk_16 24 (dk_at dksX20_init_0 5 rfl rfl)
theorem dX20_init_7 : decode cX20_init 7 = .ok (.newarray .int, 2) := dk_188_10 (dk_at dksX20_init_0 7 rfl rfl)
theorem dX20_init_9 : decode cX20_init 9 = .ok (.putfield 9, 3) := dk_181 0 9 (dk_at dksX20_init_0 9 rfl rfl)
theorem dX20_init_12 : decode cX20_init 12 = .ok (.aload_n 0, 1) := dk_42 (dk_at dksX20_init_0 12 rfl rfl)
theorem dX20_init_13 : decode cX20_init 13 = .ok (.bipush 24, 2) := dk_16 24 (dk_at dksX20_init_0 13 rfl rfl)
theorem dX20_init_15 : decode cX20_init 15 = .ok (.newarray .int, 2) := dk_188_10 (dk_at dksX20_init_0 15 rfl rfl)
theorem dX20_init_17 : decode cX20_init 17 = .ok (.putfield 15, 3) := dk_181 0 15 (dk_at dksX20_init_0 17 rfl rfl)
theorem dX20_init_20 : decode cX20_init 20 = .ok (.aload_n 0, 1) := dk_42 (dk_at dksX20_init_0 20 rfl rfl)
theorem dX20_init_21 : decode cX20_init 21 = .ok (.bipush 24, 2) := dk_16 24 (dk_at dksX20_init_0 21 rfl rfl)
theorem dX20_init_23 : decode cX20_init 23 = .ok (.newarray .int, 2) := dk_188_10 (dk_at dksX20_init_1 0 rfl rfl)
theorem dX20_init_25 : decode cX20_init 25 = .ok (.putfield 18, 3) := dk_181 0 18 (dk_at dksX20_init_1 2 rfl rfl)
theorem dX20_init_28 : decode cX20_init 28 = .ok (.aload_n 0, 1) := dk_42 (dk_at dksX20_init_1 5 rfl rfl)
theorem dX20_init_29 : decode cX20_init 29 = .ok (.bipush 24, 2) := dk_16 24 (dk_at dksX20_init_1 6 rfl rfl)
theorem dX20_init_31 : decode cX20_init 31 = .ok (.newarray .int, 2) := dk_188_10 (dk_at dksX20_init_1 8 rfl rfl)
theorem dX20_init_33 : decode cX20_init 33 = .ok (.putfield 21, 3) := dk_181 0 21 (dk_at dksX20_init_1 10 rfl rfl)
theorem dX20_init_36 : decode cX20_init 36 = .ok (.return_, 1) := dk_177 (dk_at dksX20_init_1 13 rfl rfl)
abbrev cX20_on : ByteArray := prog_16_method_2_code
def yX20_on : MethodName := ⟨RX20, "on", "(III)I"⟩
def dkwX20_on_6 : List UInt8 := [156, 0, 7, 3, 167, 0, 10, 42, 180, 0, 15, 21, 4, 46, 172]
abbrev dktX20_on_6 : List UInt8 := dkwX20_on_6 ++ []
def dkwX20_on_5 : List UInt8 := [21, 6, 153, 0, 8, 21, 5, 167, 0, 5, 21, 4, 54, 4, 132, 5, 1, 167, 255, 131, 21, 4]
abbrev dktX20_on_5 : List UInt8 := dkwX20_on_5 ++ dktX20_on_6
def dkwX20_on_4 : List UInt8 := [180, 0, 21, 21, 5, 46, 42, 180, 0, 21, 21, 4, 46, 161, 0, 7, 4, 167, 0, 4, 3, 54, 6]
abbrev dktX20_on_4 : List UInt8 := dkwX20_on_4 ++ dktX20_on_5
def dkwX20_on_3 : List UInt8 := [46, 163, 0, 37, 42, 180, 0, 18, 21, 5, 46, 42, 180, 0, 18, 21, 4, 46, 160, 0, 24, 42]
abbrev dktX20_on_3 : List UInt8 := dkwX20_on_3 ++ dktX20_on_4
def dkwX20_on_2 : List UInt8 := [164, 0, 6, 167, 0, 80, 21, 4, 155, 0, 54, 42, 180, 0, 18, 21, 5, 46, 42, 180, 0, 18, 21, 4]
abbrev dktX20_on_2 : List UInt8 := dkwX20_on_2 ++ dktX20_on_3
def dkwX20_on_1 : List UInt8 := [160, 0, 105, 42, 180, 0, 18, 21, 5, 46, 28, 163, 0, 94, 42, 180, 0, 21, 21, 5, 46, 29]
abbrev dktX20_on_1 : List UInt8 := dkwX20_on_1 ++ dktX20_on_2
def dkwX20_on_0 : List UInt8 := [2, 54, 4, 3, 54, 5, 21, 5, 42, 180, 0, 24, 162, 0, 122, 42, 180, 0, 9, 21, 5, 46, 27]
abbrev dktX20_on_0 : List UInt8 := dkwX20_on_0 ++ dktX20_on_1
theorem dksX20_on_0 : cX20_on.data.toList.drop 0 = dktX20_on_0 := by decide +kernel
theorem dksX20_on_1 : cX20_on.data.toList.drop 23 = dktX20_on_1 := dk_seg dksX20_on_0 23 rfl rfl
theorem dksX20_on_2 : cX20_on.data.toList.drop 45 = dktX20_on_2 := dk_seg dksX20_on_1 22 rfl rfl
theorem dksX20_on_3 : cX20_on.data.toList.drop 69 = dktX20_on_3 := dk_seg dksX20_on_2 24 rfl rfl
theorem dksX20_on_4 : cX20_on.data.toList.drop 91 = dktX20_on_4 := dk_seg dksX20_on_3 22 rfl rfl
theorem dksX20_on_5 : cX20_on.data.toList.drop 114 = dktX20_on_5 := dk_seg dksX20_on_4 23 rfl rfl
theorem dksX20_on_6 : cX20_on.data.toList.drop 136 = dktX20_on_6 := dk_seg dksX20_on_5 22 rfl rfl
theorem dX20_on_0 : decode cX20_on 0 = .ok (.iconst (-1), 1) := dk_2 (dk_at dksX20_on_0 0 rfl rfl)
theorem dX20_on_1 : decode cX20_on 1 = .ok (.istore 4, 2) := dk_54 4 (dk_at dksX20_on_0 1 rfl rfl)
theorem dX20_on_3 : decode cX20_on 3 = .ok (.iconst 0, 1) := dk_3 (dk_at dksX20_on_0 3 rfl rfl)
theorem dX20_on_4 : decode cX20_on 4 = .ok (.istore 5, 2) := dk_54 5 (dk_at dksX20_on_0 4 rfl rfl)
theorem dX20_on_6 : decode cX20_on 6 = .ok (.iload 5, 2) := dk_21 5 (dk_at dksX20_on_0 6 rfl rfl)
theorem dX20_on_8 : decode cX20_on 8 = .ok (.aload_n 0, 1) := dk_42 (dk_at dksX20_on_0 8 rfl rfl)
theorem dX20_on_9 : decode cX20_on 9 = .ok (.getfield 24, 3) := dk_180 0 24 (dk_at dksX20_on_0 9 rfl rfl)
theorem dX20_on_12 : decode cX20_on 12 = .ok (.if_icmp .ge 122, 3) := dk_162 0 122 (dk_at dksX20_on_0 12 rfl rfl)
theorem dX20_on_15 : decode cX20_on 15 = .ok (.aload_n 0, 1) := dk_42 (dk_at dksX20_on_0 15 rfl rfl)
theorem dX20_on_16 : decode cX20_on 16 = .ok (.getfield 9, 3) := dk_180 0 9 (dk_at dksX20_on_0 16 rfl rfl)
theorem dX20_on_19 : decode cX20_on 19 = .ok (.iload 5, 2) := dk_21 5 (dk_at dksX20_on_0 19 rfl rfl)
theorem dX20_on_21 : decode cX20_on 21 = .ok (.iaload, 1) := dk_46 (dk_at dksX20_on_0 21 rfl rfl)
theorem dX20_on_22 : decode cX20_on 22 = .ok (.iload_n 1, 1) := dk_27 (dk_at dksX20_on_0 22 rfl rfl)
theorem dX20_on_23 : decode cX20_on 23 = .ok (.if_icmp .ne 105, 3) := dk_160 0 105 (dk_at dksX20_on_1 0 rfl rfl)
theorem dX20_on_26 : decode cX20_on 26 = .ok (.aload_n 0, 1) := dk_42 (dk_at dksX20_on_1 3 rfl rfl)
theorem dX20_on_27 : decode cX20_on 27 = .ok (.getfield 18, 3) := dk_180 0 18 (dk_at dksX20_on_1 4 rfl rfl)
theorem dX20_on_30 : decode cX20_on 30 = .ok (.iload 5, 2) := dk_21 5 (dk_at dksX20_on_1 7 rfl rfl)
theorem dX20_on_32 : decode cX20_on 32 = .ok (.iaload, 1) := dk_46 (dk_at dksX20_on_1 9 rfl rfl)
theorem dX20_on_33 : decode cX20_on 33 = .ok (.iload_n 2, 1) := dk_28 (dk_at dksX20_on_1 10 rfl rfl)
theorem dX20_on_34 : decode cX20_on 34 = .ok (.if_icmp .gt 94, 3) := dk_163 0 94 (dk_at dksX20_on_1 11 rfl rfl)
theorem dX20_on_37 : decode cX20_on 37 = .ok (.aload_n 0, 1) := dk_42 (dk_at dksX20_on_1 14 rfl rfl)
theorem dX20_on_38 : decode cX20_on 38 = .ok (.getfield 21, 3) := dk_180 0 21 (dk_at dksX20_on_1 15 rfl rfl)
theorem dX20_on_41 : decode cX20_on 41 = .ok (.iload 5, 2) := dk_21 5 (dk_at dksX20_on_1 18 rfl rfl)
theorem dX20_on_43 : decode cX20_on 43 = .ok (.iaload, 1) := dk_46 (dk_at dksX20_on_1 20 rfl rfl)
theorem dX20_on_44 : decode cX20_on 44 = .ok (.iload_n 3, 1) := dk_29 (dk_at dksX20_on_1 21 rfl rfl)
theorem dX20_on_45 : decode cX20_on 45 = .ok (.if_icmp .le 6, 3) := dk_164 0 6 (dk_at dksX20_on_2 0 rfl rfl)
theorem dX20_on_48 : decode cX20_on 48 = .ok (.goto 80, 3) := dk_167 0 80 (dk_at dksX20_on_2 3 rfl rfl)
theorem dX20_on_51 : decode cX20_on 51 = .ok (.iload 4, 2) := dk_21 4 (dk_at dksX20_on_2 6 rfl rfl)
theorem dX20_on_53 : decode cX20_on 53 = .ok (.ifCond .lt 54, 3) := dk_155 0 54 (dk_at dksX20_on_2 8 rfl rfl)
theorem dX20_on_56 : decode cX20_on 56 = .ok (.aload_n 0, 1) := dk_42 (dk_at dksX20_on_2 11 rfl rfl)
theorem dX20_on_57 : decode cX20_on 57 = .ok (.getfield 18, 3) := dk_180 0 18 (dk_at dksX20_on_2 12 rfl rfl)
theorem dX20_on_60 : decode cX20_on 60 = .ok (.iload 5, 2) := dk_21 5 (dk_at dksX20_on_2 15 rfl rfl)
theorem dX20_on_62 : decode cX20_on 62 = .ok (.iaload, 1) := dk_46 (dk_at dksX20_on_2 17 rfl rfl)
theorem dX20_on_63 : decode cX20_on 63 = .ok (.aload_n 0, 1) := dk_42 (dk_at dksX20_on_2 18 rfl rfl)
theorem dX20_on_64 : decode cX20_on 64 = .ok (.getfield 18, 3) := dk_180 0 18 (dk_at dksX20_on_2 19 rfl rfl)
theorem dX20_on_67 : decode cX20_on 67 = .ok (.iload 4, 2) := dk_21 4 (dk_at dksX20_on_2 22 rfl rfl)
theorem dX20_on_69 : decode cX20_on 69 = .ok (.iaload, 1) := dk_46 (dk_at dksX20_on_3 0 rfl rfl)
theorem dX20_on_70 : decode cX20_on 70 = .ok (.if_icmp .gt 37, 3) := dk_163 0 37 (dk_at dksX20_on_3 1 rfl rfl)
theorem dX20_on_73 : decode cX20_on 73 = .ok (.aload_n 0, 1) := dk_42 (dk_at dksX20_on_3 4 rfl rfl)
theorem dX20_on_74 : decode cX20_on 74 = .ok (.getfield 18, 3) := dk_180 0 18 (dk_at dksX20_on_3 5 rfl rfl)
theorem dX20_on_77 : decode cX20_on 77 = .ok (.iload 5, 2) := dk_21 5 (dk_at dksX20_on_3 8 rfl rfl)
theorem dX20_on_79 : decode cX20_on 79 = .ok (.iaload, 1) := dk_46 (dk_at dksX20_on_3 10 rfl rfl)
theorem dX20_on_80 : decode cX20_on 80 = .ok (.aload_n 0, 1) := dk_42 (dk_at dksX20_on_3 11 rfl rfl)
theorem dX20_on_81 : decode cX20_on 81 = .ok (.getfield 18, 3) := dk_180 0 18 (dk_at dksX20_on_3 12 rfl rfl)
theorem dX20_on_84 : decode cX20_on 84 = .ok (.iload 4, 2) := dk_21 4 (dk_at dksX20_on_3 15 rfl rfl)
theorem dX20_on_86 : decode cX20_on 86 = .ok (.iaload, 1) := dk_46 (dk_at dksX20_on_3 17 rfl rfl)
theorem dX20_on_87 : decode cX20_on 87 = .ok (.if_icmp .ne 24, 3) := dk_160 0 24 (dk_at dksX20_on_3 18 rfl rfl)
theorem dX20_on_90 : decode cX20_on 90 = .ok (.aload_n 0, 1) := dk_42 (dk_at dksX20_on_3 21 rfl rfl)
theorem dX20_on_91 : decode cX20_on 91 = .ok (.getfield 21, 3) := dk_180 0 21 (dk_at dksX20_on_4 0 rfl rfl)
theorem dX20_on_94 : decode cX20_on 94 = .ok (.iload 5, 2) := dk_21 5 (dk_at dksX20_on_4 3 rfl rfl)
theorem dX20_on_96 : decode cX20_on 96 = .ok (.iaload, 1) := dk_46 (dk_at dksX20_on_4 5 rfl rfl)
theorem dX20_on_97 : decode cX20_on 97 = .ok (.aload_n 0, 1) := dk_42 (dk_at dksX20_on_4 6 rfl rfl)
theorem dX20_on_98 : decode cX20_on 98 = .ok (.getfield 21, 3) := dk_180 0 21 (dk_at dksX20_on_4 7 rfl rfl)
theorem dX20_on_101 : decode cX20_on 101 = .ok (.iload 4, 2) := dk_21 4 (dk_at dksX20_on_4 10 rfl rfl)
theorem dX20_on_103 : decode cX20_on 103 = .ok (.iaload, 1) := dk_46 (dk_at dksX20_on_4 12 rfl rfl)
theorem dX20_on_104 : decode cX20_on 104 = .ok (.if_icmp .lt 7, 3) := dk_161 0 7 (dk_at dksX20_on_4 13 rfl rfl)
theorem dX20_on_107 : decode cX20_on 107 = .ok (.iconst 1, 1) := dk_4 (dk_at dksX20_on_4 16 rfl rfl)
theorem dX20_on_108 : decode cX20_on 108 = .ok (.goto 4, 3) := dk_167 0 4 (dk_at dksX20_on_4 17 rfl rfl)
theorem dX20_on_111 : decode cX20_on 111 = .ok (.iconst 0, 1) := dk_3 (dk_at dksX20_on_4 20 rfl rfl)
theorem dX20_on_112 : decode cX20_on 112 = .ok (.istore 6, 2) := dk_54 6 (dk_at dksX20_on_4 21 rfl rfl)
theorem dX20_on_114 : decode cX20_on 114 = .ok (.iload 6, 2) := dk_21 6 (dk_at dksX20_on_5 0 rfl rfl)
theorem dX20_on_116 : decode cX20_on 116 = .ok (.ifCond .eq 8, 3) := dk_153 0 8 (dk_at dksX20_on_5 2 rfl rfl)
theorem dX20_on_119 : decode cX20_on 119 = .ok (.iload 5, 2) := dk_21 5 (dk_at dksX20_on_5 5 rfl rfl)
theorem dX20_on_121 : decode cX20_on 121 = .ok (.goto 5, 3) := dk_167 0 5 (dk_at dksX20_on_5 7 rfl rfl)
theorem dX20_on_124 : decode cX20_on 124 = .ok (.iload 4, 2) := dk_21 4 (dk_at dksX20_on_5 10 rfl rfl)
theorem dX20_on_126 : decode cX20_on 126 = .ok (.istore 4, 2) := dk_54 4 (dk_at dksX20_on_5 12 rfl rfl)
theorem dX20_on_128 : decode cX20_on 128 = .ok (.iinc 5 1, 3) := dk_132 5 1 (dk_at dksX20_on_5 14 rfl rfl)
theorem dX20_on_131 : decode cX20_on 131 = .ok (.goto (-125), 3) := dk_167 255 131 (dk_at dksX20_on_5 17 rfl rfl)
theorem dX20_on_134 : decode cX20_on 134 = .ok (.iload 4, 2) := dk_21 4 (dk_at dksX20_on_5 20 rfl rfl)
theorem dX20_on_136 : decode cX20_on 136 = .ok (.ifCond .ge 7, 3) := dk_156 0 7 (dk_at dksX20_on_6 0 rfl rfl)
theorem dX20_on_139 : decode cX20_on 139 = .ok (.iconst 0, 1) := dk_3 (dk_at dksX20_on_6 3 rfl rfl)
theorem dX20_on_140 : decode cX20_on 140 = .ok (.goto 10, 3) := dk_167 0 10 (dk_at dksX20_on_6 4 rfl rfl)
theorem dX20_on_143 : decode cX20_on 143 = .ok (.aload_n 0, 1) := dk_42 (dk_at dksX20_on_6 7 rfl rfl)
theorem dX20_on_144 : decode cX20_on 144 = .ok (.getfield 15, 3) := dk_180 0 15 (dk_at dksX20_on_6 8 rfl rfl)
theorem dX20_on_147 : decode cX20_on 147 = .ok (.iload 4, 2) := dk_21 4 (dk_at dksX20_on_6 11 rfl rfl)
theorem dX20_on_149 : decode cX20_on 149 = .ok (.iaload, 1) := dk_46 (dk_at dksX20_on_6 13 rfl rfl)
theorem dX20_on_150 : decode cX20_on 150 = .ok (.ireturn, 1) := dk_172 (dk_at dksX20_on_6 14 rfl rfl)
theorem q169 : (Jvm.Cond.initialized "CoverHouse$Policy") ∈ lw_all := lw_g (lw_at lw_m1 42 rfl) rfl
theorem q372 : (Jvm.Cond.selects "CoverHouse$Policy" ({ cls := "java/lang/Object", name := "getClass", desc := "()Ljava/lang/Class;" } : Jvm.MethodName) ({ cls := "java/lang/Object", name := "getClass", desc := "()Ljava/lang/Class;" } : Jvm.MethodName)) ∈ lw_all := lw_g (lw_at lw_m2 5 rfl) rfl
theorem q1595 : (Jvm.Cond.instantiable "CoverHouse$Policy" (5 : Nat)) ∈ lw_all := lw_g (lw_at lw_m7 28 rfl) rfl
theorem q1597 : (Jvm.Cond.instanceMethod ({ cls := "CoverHouse$Policy", name := "<init>", desc := "()V" } : Jvm.MethodName)) ∈ lw_all := lw_g (lw_at lw_m7 30 rfl) rfl
theorem q1598 : (Jvm.Cond.code ({ cls := "CoverHouse$Policy", name := "<init>", desc := "()V" } : Jvm.MethodName) prog_16_method_1_code (1 : Nat) (Option.none : Option Jvm.ClassFile.FieldType)) ∈ lw_all := lw_g (lw_at lw_m7 31 rfl) rfl
theorem q1599 : (Jvm.Cond.methodLink "CoverHouse$Policy" (3 : Nat) ({ cls := "java/lang/Object", name := "<init>", desc := "()V" } : Jvm.MethodName)) ∈ lw_all := lw_g (lw_at lw_m7 32 rfl) rfl
theorem q1600 : (Jvm.Cond.fieldLink "CoverHouse$Policy" (9 : Nat) "CoverHouse$Policy" "whats" "[I") ∈ lw_all := lw_g (lw_at lw_m7 33 rfl) rfl
theorem q1602 : (Jvm.Cond.fieldLink "CoverHouse$Policy" (15 : Nat) "CoverHouse$Policy" "values" "[I") ∈ lw_all := lw_g (lw_at lw_m7 35 rfl) rfl
theorem q1604 : (Jvm.Cond.fieldLink "CoverHouse$Policy" (18 : Nat) "CoverHouse$Policy" "froms" "[I") ∈ lw_all := lw_g (lw_at lw_m7 37 rfl) rfl
theorem q1606 : (Jvm.Cond.fieldLink "CoverHouse$Policy" (21 : Nat) "CoverHouse$Policy" "knowns" "[I") ∈ lw_all := lw_g (lw_at lw_m7 39 rfl) rfl
theorem q1608 : (Jvm.Cond.fieldLink "CoverHouse$Policy" (24 : Nat) "CoverHouse$Policy" "size" "I") ∈ lw_all := lw_g (lw_at lw_m7 41 rfl) rfl
theorem q1610 : (Jvm.Cond.laysFinal "CoverHouse$Policy" "CoverHouse$Policy" "whats" "[I") ∈ lw_all := lw_g (lw_at lw_m7 43 rfl) rfl
theorem q1611 : (Jvm.Cond.soleField "CoverHouse$Policy" "whats") ∈ lw_all := lw_g (lw_at lw_m7 44 rfl) rfl
theorem q1612 : (Jvm.Cond.laysFinal "CoverHouse$Policy" "CoverHouse$Policy" "values" "[I") ∈ lw_all := lw_g (lw_at lw_m7 45 rfl) rfl
theorem q1613 : (Jvm.Cond.soleField "CoverHouse$Policy" "values") ∈ lw_all := lw_g (lw_at lw_m7 46 rfl) rfl
theorem q1614 : (Jvm.Cond.laysFinal "CoverHouse$Policy" "CoverHouse$Policy" "froms" "[I") ∈ lw_all := lw_g (lw_at lw_m7 47 rfl) rfl
theorem q1615 : (Jvm.Cond.soleField "CoverHouse$Policy" "froms") ∈ lw_all := lw_g (lw_at lw_m7 48 rfl) rfl
theorem q1616 : (Jvm.Cond.laysFinal "CoverHouse$Policy" "CoverHouse$Policy" "knowns" "[I") ∈ lw_all := lw_g (lw_at lw_m7 49 rfl) rfl
theorem q1617 : (Jvm.Cond.soleField "CoverHouse$Policy" "knowns") ∈ lw_all := lw_g (lw_at lw_m7 50 rfl) rfl
theorem q1618 : (Jvm.Cond.lays "CoverHouse$Policy" "CoverHouse$Policy" "size" "I") ∈ lw_all := lw_g (lw_at lw_m7 51 rfl) rfl
theorem q1619 : (Jvm.Cond.soleField "CoverHouse$Policy" "size") ∈ lw_all := lw_g (lw_at lw_m7 52 rfl) rfl
theorem q1620 : (Jvm.Cond.superclass "CoverHouse$Policy" "java/lang/Object") ∈ lw_all := lw_g (lw_at lw_m7 53 rfl) rfl
theorem q1635 : (Jvm.Cond.instanceMethod ({ cls := "CoverHouse$Policy", name := "on", desc := "(III)I" } : Jvm.MethodName)) ∈ lw_all := lw_g (lw_at lw_m7 68 rfl) rfl
theorem q1636 : (Jvm.Cond.selects "CoverHouse$Policy" ({ cls := "CoverHouse$Policy", name := "on", desc := "(III)I" } : Jvm.MethodName) ({ cls := "CoverHouse$Policy", name := "on", desc := "(III)I" } : Jvm.MethodName)) ∈ lw_all := lw_g (lw_at lw_m7 69 rfl) rfl
theorem q1637 : (Jvm.Cond.code ({ cls := "CoverHouse$Policy", name := "on", desc := "(III)I" } : Jvm.MethodName) prog_16_method_2_code (7 : Nat) (Option.some Jvm.ClassFile.FieldType.int)) ∈ lw_all := lw_g (lw_at lw_m7 70 rfl) rfl
theorem q2716 : (Jvm.Cond.castable "CoverHouse$Policy" "java/lang/Object") ∈ lw_tbl := lw_at lw_m11 189 rfl
theorem in_X20 : ∀ w ∈ wsX200, w ∈ lw_all := lw_in wsX200 [1610, 1612, 1614, 1616, 1618] (by decide +kernel) (by decide +kernel)

/-! CoverHouse$Claim -/
set_option maxRecDepth 100000
def RX21 : String := "CoverHouse$Claim"
def TX21 : u_T := fun k => match k with
  | 0 => ("CoverHouse$Claim", "policy", "I", true)
  | 1 => ("CoverHouse$Claim", "event", "LCoverHouse$Event;", true)
  | 2 => ("CoverHouse$Claim", "day", "I", true)
  | 3 => ("CoverHouse$Claim", "known", "I", true)
  | 4 => ("CoverHouse$Claim", "losses", "LCoverHouse$Known;", true)
  | 5 => ("CoverHouse$Claim", "paid", "I", false)
  | _ => ("CoverHouse$Claim", "passed", "I", false)
def tyX21 : Nat → FieldType := fun k => match k with
  | 0 => .int
  | 1 => .object "CoverHouse$Event"
  | 2 => .int
  | 3 => .int
  | 4 => .object "CoverHouse$Known"
  | 5 => .int
  | _ => .int
abbrev wsX210 : List Cond := u_ws RX21 TX21 7
theorem nmX21 : ∀ a, a < 7 → ∀ b, b < 7 → a ≠ b → (TX21 a).2.1 ≠ (TX21 b).2.1 := by decide +kernel
theorem tyX21_ok : ∀ k, k < 7 → parseFieldDescriptor (TX21 k).2.2.1 = some (tyX21 k) := by decide +kernel
abbrev cX21_init : ByteArray := prog_2_method_1_code
def yX21_init : MethodName := ⟨RX21, "<init>", "(ILCoverHouse$Event;II)V"⟩
def dkwX21_init_1 : List UInt8 := [181, 0, 22, 42, 29, 181, 0, 26, 42, 21, 4, 181, 0, 29, 177]
abbrev dktX21_init_1 : List UInt8 := dkwX21_init_1 ++ []
def dkwX21_init_0 : List UInt8 := [42, 183, 0, 1, 42, 187, 0, 7, 89, 16, 6, 183, 0, 9, 181, 0, 12, 42, 27, 181, 0, 18, 42, 44]
abbrev dktX21_init_0 : List UInt8 := dkwX21_init_0 ++ dktX21_init_1
theorem dksX21_init_0 : cX21_init.data.toList.drop 0 = dktX21_init_0 := by decide +kernel
theorem dksX21_init_1 : cX21_init.data.toList.drop 24 = dktX21_init_1 := dk_seg dksX21_init_0 24 rfl rfl
theorem dX21_init_0 : decode cX21_init 0 = .ok (.aload_n 0, 1) := dk_42 (dk_at dksX21_init_0 0 rfl rfl)
theorem dX21_init_1 : decode cX21_init 1 = .ok (.invokespecial 1, 3) := dk_183 0 1 (dk_at dksX21_init_0 1 rfl rfl)
theorem dX21_init_4 : decode cX21_init 4 = .ok (.aload_n 0, 1) := dk_42 (dk_at dksX21_init_0 4 rfl rfl)
theorem dX21_init_5 : decode cX21_init 5 = .ok (.new 7, 3) := dk_187 0 7 (dk_at dksX21_init_0 5 rfl rfl)
theorem dX21_init_8 : decode cX21_init 8 = .ok (.dup, 1) := dk_89 (dk_at dksX21_init_0 8 rfl rfl)
theorem dX21_init_9 : decode cX21_init 9 = .ok (.bipush 6, 2) := dk_16 6 (dk_at dksX21_init_0 9 rfl rfl)
theorem dX21_init_11 : decode cX21_init 11 = .ok (.invokespecial 9, 3) := dk_183 0 9 (dk_at dksX21_init_0 11 rfl rfl)
theorem dX21_init_14 : decode cX21_init 14 = .ok (.putfield 12, 3) := dk_181 0 12 (dk_at dksX21_init_0 14 rfl rfl)
theorem dX21_init_17 : decode cX21_init 17 = .ok (.aload_n 0, 1) := dk_42 (dk_at dksX21_init_0 17 rfl rfl)
theorem dX21_init_18 : decode cX21_init 18 = .ok (.iload_n 1, 1) := dk_27 (dk_at dksX21_init_0 18 rfl rfl)
theorem dX21_init_19 : decode cX21_init 19 = .ok (.putfield 18, 3) := dk_181 0 18 (dk_at dksX21_init_0 19 rfl rfl)
theorem dX21_init_22 : decode cX21_init 22 = .ok (.aload_n 0, 1) := dk_42 (dk_at dksX21_init_0 22 rfl rfl)
theorem dX21_init_23 : decode cX21_init 23 = .ok (.aload_n 2, 1) := dk_44 (dk_at dksX21_init_0 23 rfl rfl)
theorem dX21_init_24 : decode cX21_init 24 = .ok (.putfield 22, 3) := dk_181 0 22 (dk_at dksX21_init_1 0 rfl rfl)
theorem dX21_init_27 : decode cX21_init 27 = .ok (.aload_n 0, 1) := dk_42 (dk_at dksX21_init_1 3 rfl rfl)
theorem dX21_init_28 : decode cX21_init 28 = .ok (.iload_n 3, 1) := dk_29 (dk_at dksX21_init_1 4 rfl rfl)
theorem dX21_init_29 : decode cX21_init 29 = .ok (.putfield 26, 3) := dk_181 0 26 (dk_at dksX21_init_1 5 rfl rfl)
theorem dX21_init_32 : decode cX21_init 32 = .ok (.aload_n 0, 1) := dk_42 (dk_at dksX21_init_1 8 rfl rfl)
theorem dX21_init_33 : decode cX21_init 33 = .ok (.iload 4, 2) := dk_21 4 (dk_at dksX21_init_1 9 rfl rfl)
theorem dX21_init_35 : decode cX21_init 35 = .ok (.putfield 29, 3) := dk_181 0 29 (dk_at dksX21_init_1 11 rfl rfl)
theorem dX21_init_38 : decode cX21_init 38 = .ok (.return_, 1) := dk_177 (dk_at dksX21_init_1 14 rfl rfl)
theorem q170 : (Jvm.Cond.initialized "CoverHouse$Claim") ∈ lw_all := lw_g (lw_at lw_m1 43 rfl) rfl
theorem q359 : (Jvm.Cond.selects "CoverHouse$Claim" ({ cls := "java/lang/Object", name := "getClass", desc := "()Ljava/lang/Class;" } : Jvm.MethodName) ({ cls := "java/lang/Object", name := "getClass", desc := "()Ljava/lang/Class;" } : Jvm.MethodName)) ∈ lw_all := lw_g (lw_at lw_m1 232 rfl) rfl
theorem q1643 : (Jvm.Cond.instantiable "CoverHouse$Claim" (7 : Nat)) ∈ lw_all := lw_g (lw_at lw_m7 76 rfl) rfl
theorem q1645 : (Jvm.Cond.instanceMethod ({ cls := "CoverHouse$Claim", name := "<init>", desc := "(ILCoverHouse$Event;II)V" } : Jvm.MethodName)) ∈ lw_all := lw_g (lw_at lw_m7 78 rfl) rfl
theorem q1646 : (Jvm.Cond.code ({ cls := "CoverHouse$Claim", name := "<init>", desc := "(ILCoverHouse$Event;II)V" } : Jvm.MethodName) prog_2_method_1_code (5 : Nat) (Option.none : Option Jvm.ClassFile.FieldType)) ∈ lw_all := lw_g (lw_at lw_m7 79 rfl) rfl
theorem q1647 : (Jvm.Cond.methodLink "CoverHouse$Claim" (1 : Nat) ({ cls := "java/lang/Object", name := "<init>", desc := "()V" } : Jvm.MethodName)) ∈ lw_all := lw_g (lw_at lw_m7 80 rfl) rfl
theorem q1648 : (Jvm.Cond.classLink "CoverHouse$Claim" (7 : Nat) "CoverHouse$Known") ∈ lw_all := lw_g (lw_at lw_m7 81 rfl) rfl
theorem q1649 : (Jvm.Cond.methodLink "CoverHouse$Claim" (9 : Nat) ({ cls := "CoverHouse$Known", name := "<init>", desc := "(I)V" } : Jvm.MethodName)) ∈ lw_all := lw_g (lw_at lw_m7 82 rfl) rfl
theorem q1650 : (Jvm.Cond.fieldLink "CoverHouse$Claim" (18 : Nat) "CoverHouse$Claim" "policy" "I") ∈ lw_all := lw_g (lw_at lw_m7 83 rfl) rfl
theorem q1652 : (Jvm.Cond.fieldLink "CoverHouse$Claim" (22 : Nat) "CoverHouse$Claim" "event" "LCoverHouse$Event;") ∈ lw_all := lw_g (lw_at lw_m7 85 rfl) rfl
theorem q1654 : (Jvm.Cond.fieldLink "CoverHouse$Claim" (26 : Nat) "CoverHouse$Claim" "day" "I") ∈ lw_all := lw_g (lw_at lw_m7 87 rfl) rfl
theorem q1656 : (Jvm.Cond.fieldLink "CoverHouse$Claim" (29 : Nat) "CoverHouse$Claim" "known" "I") ∈ lw_all := lw_g (lw_at lw_m7 89 rfl) rfl
theorem q1658 : (Jvm.Cond.fieldLink "CoverHouse$Claim" (12 : Nat) "CoverHouse$Claim" "losses" "LCoverHouse$Known;") ∈ lw_all := lw_g (lw_at lw_m7 91 rfl) rfl
theorem q1662 : (Jvm.Cond.laysFinal "CoverHouse$Claim" "CoverHouse$Claim" "policy" "I") ∈ lw_all := lw_g (lw_at lw_m7 95 rfl) rfl
theorem q1663 : (Jvm.Cond.soleField "CoverHouse$Claim" "policy") ∈ lw_all := lw_g (lw_at lw_m7 96 rfl) rfl
theorem q1664 : (Jvm.Cond.laysFinal "CoverHouse$Claim" "CoverHouse$Claim" "event" "LCoverHouse$Event;") ∈ lw_all := lw_g (lw_at lw_m7 97 rfl) rfl
theorem q1665 : (Jvm.Cond.soleField "CoverHouse$Claim" "event") ∈ lw_all := lw_g (lw_at lw_m7 98 rfl) rfl
theorem q1666 : (Jvm.Cond.laysFinal "CoverHouse$Claim" "CoverHouse$Claim" "day" "I") ∈ lw_all := lw_g (lw_at lw_m7 99 rfl) rfl
theorem q1667 : (Jvm.Cond.soleField "CoverHouse$Claim" "day") ∈ lw_all := lw_g (lw_at lw_m7 100 rfl) rfl
theorem q1668 : (Jvm.Cond.laysFinal "CoverHouse$Claim" "CoverHouse$Claim" "known" "I") ∈ lw_all := lw_g (lw_at lw_m7 101 rfl) rfl
theorem q1669 : (Jvm.Cond.soleField "CoverHouse$Claim" "known") ∈ lw_all := lw_g (lw_at lw_m7 102 rfl) rfl
theorem q1670 : (Jvm.Cond.laysFinal "CoverHouse$Claim" "CoverHouse$Claim" "losses" "LCoverHouse$Known;") ∈ lw_all := lw_g (lw_at lw_m7 103 rfl) rfl
theorem q1671 : (Jvm.Cond.soleField "CoverHouse$Claim" "losses") ∈ lw_all := lw_g (lw_at lw_m7 104 rfl) rfl
theorem q1672 : (Jvm.Cond.lays "CoverHouse$Claim" "CoverHouse$Claim" "paid" "I") ∈ lw_all := lw_g (lw_at lw_m7 105 rfl) rfl
theorem q1673 : (Jvm.Cond.soleField "CoverHouse$Claim" "paid") ∈ lw_all := lw_g (lw_at lw_m7 106 rfl) rfl
theorem q1674 : (Jvm.Cond.lays "CoverHouse$Claim" "CoverHouse$Claim" "passed" "I") ∈ lw_all := lw_g (lw_at lw_m7 107 rfl) rfl
theorem q1675 : (Jvm.Cond.soleField "CoverHouse$Claim" "passed") ∈ lw_all := lw_g (lw_at lw_m7 108 rfl) rfl
theorem q1676 : (Jvm.Cond.superclass "CoverHouse$Claim" "java/lang/Object") ∈ lw_all := lw_g (lw_at lw_m7 109 rfl) rfl
theorem q2717 : (Jvm.Cond.castable "CoverHouse$Claim" "java/lang/Object") ∈ lw_tbl := lw_at lw_m11 190 rfl
theorem in_X21 : ∀ w ∈ wsX210, w ∈ lw_all := lw_in wsX210 [1662, 1664, 1666, 1668, 1670, 1672, 1674] (by decide +kernel) (by decide +kernel)

/-! CoverHouse$Sign$1 -/
set_option maxRecDepth 100000
def RX22 : String := "CoverHouse$Sign$1"
abbrev cX22_holds : ByteArray := prog_20_method_2_code
def yX22_holds : MethodName := ⟨RX22, "holds", "(II)Z"⟩
def dkwX22_holds_0 : List UInt8 := [27, 28, 160, 0, 7, 4, 167, 0, 4, 3, 172]
abbrev dktX22_holds_0 : List UInt8 := dkwX22_holds_0 ++ []
theorem dksX22_holds_0 : cX22_holds.data.toList.drop 0 = dktX22_holds_0 := by decide +kernel
theorem dX22_holds_0 : decode cX22_holds 0 = .ok (.iload_n 1, 1) := dk_27 (dk_at dksX22_holds_0 0 rfl rfl)
theorem dX22_holds_1 : decode cX22_holds 1 = .ok (.iload_n 2, 1) := dk_28 (dk_at dksX22_holds_0 1 rfl rfl)
theorem dX22_holds_2 : decode cX22_holds 2 = .ok (.if_icmp .ne 7, 3) := dk_160 0 7 (dk_at dksX22_holds_0 2 rfl rfl)
theorem dX22_holds_5 : decode cX22_holds 5 = .ok (.iconst 1, 1) := dk_4 (dk_at dksX22_holds_0 5 rfl rfl)
theorem dX22_holds_6 : decode cX22_holds 6 = .ok (.goto 4, 3) := dk_167 0 4 (dk_at dksX22_holds_0 6 rfl rfl)
theorem dX22_holds_9 : decode cX22_holds 9 = .ok (.iconst 0, 1) := dk_3 (dk_at dksX22_holds_0 9 rfl rfl)
theorem dX22_holds_10 : decode cX22_holds 10 = .ok (.ireturn, 1) := dk_172 (dk_at dksX22_holds_0 10 rfl rfl)
theorem q375 : (Jvm.Cond.selects "CoverHouse$Sign$1" ({ cls := "java/lang/Object", name := "getClass", desc := "()Ljava/lang/Class;" } : Jvm.MethodName) ({ cls := "java/lang/Object", name := "getClass", desc := "()Ljava/lang/Class;" } : Jvm.MethodName)) ∈ lw_all := lw_g (lw_at lw_m2 8 rfl) rfl
theorem q1230 : (Jvm.Cond.selects "CoverHouse$Sign$1" ({ cls := "CoverHouse$Sign", name := "holds", desc := "(II)Z" } : Jvm.MethodName) ({ cls := "CoverHouse$Sign$1", name := "holds", desc := "(II)Z" } : Jvm.MethodName)) ∈ lw_all := lw_g (lw_at lw_m5 143 rfl) rfl
theorem q1231 : (Jvm.Cond.instanceMethod ({ cls := "CoverHouse$Sign$1", name := "holds", desc := "(II)Z" } : Jvm.MethodName)) ∈ lw_all := lw_g (lw_at lw_m5 144 rfl) rfl
theorem q1232 : (Jvm.Cond.code ({ cls := "CoverHouse$Sign$1", name := "holds", desc := "(II)Z" } : Jvm.MethodName) prog_20_method_2_code (3 : Nat) (Option.some Jvm.ClassFile.FieldType.boolean)) ∈ lw_all := lw_g (lw_at lw_m5 145 rfl) rfl
theorem q2703 : (Jvm.Cond.castable "CoverHouse$Sign$1" "java/lang/Object") ∈ lw_tbl := lw_at lw_m11 176 rfl

/-! CoverHouse$Sign$2 -/
set_option maxRecDepth 100000
def RX23 : String := "CoverHouse$Sign$2"
abbrev cX23_holds : ByteArray := prog_21_method_2_code
def yX23_holds : MethodName := ⟨RX23, "holds", "(II)Z"⟩
def dkwX23_holds_0 : List UInt8 := [27, 28, 162, 0, 7, 4, 167, 0, 4, 3, 172]
abbrev dktX23_holds_0 : List UInt8 := dkwX23_holds_0 ++ []
theorem dksX23_holds_0 : cX23_holds.data.toList.drop 0 = dktX23_holds_0 := by decide +kernel
theorem dX23_holds_0 : decode cX23_holds 0 = .ok (.iload_n 1, 1) := dk_27 (dk_at dksX23_holds_0 0 rfl rfl)
theorem dX23_holds_1 : decode cX23_holds 1 = .ok (.iload_n 2, 1) := dk_28 (dk_at dksX23_holds_0 1 rfl rfl)
theorem dX23_holds_2 : decode cX23_holds 2 = .ok (.if_icmp .ge 7, 3) := dk_162 0 7 (dk_at dksX23_holds_0 2 rfl rfl)
theorem dX23_holds_5 : decode cX23_holds 5 = .ok (.iconst 1, 1) := dk_4 (dk_at dksX23_holds_0 5 rfl rfl)
theorem dX23_holds_6 : decode cX23_holds 6 = .ok (.goto 4, 3) := dk_167 0 4 (dk_at dksX23_holds_0 6 rfl rfl)
theorem dX23_holds_9 : decode cX23_holds 9 = .ok (.iconst 0, 1) := dk_3 (dk_at dksX23_holds_0 9 rfl rfl)
theorem dX23_holds_10 : decode cX23_holds 10 = .ok (.ireturn, 1) := dk_172 (dk_at dksX23_holds_0 10 rfl rfl)
theorem q376 : (Jvm.Cond.selects "CoverHouse$Sign$2" ({ cls := "java/lang/Object", name := "getClass", desc := "()Ljava/lang/Class;" } : Jvm.MethodName) ({ cls := "java/lang/Object", name := "getClass", desc := "()Ljava/lang/Class;" } : Jvm.MethodName)) ∈ lw_all := lw_g (lw_at lw_m2 9 rfl) rfl
theorem q1233 : (Jvm.Cond.selects "CoverHouse$Sign$2" ({ cls := "CoverHouse$Sign", name := "holds", desc := "(II)Z" } : Jvm.MethodName) ({ cls := "CoverHouse$Sign$2", name := "holds", desc := "(II)Z" } : Jvm.MethodName)) ∈ lw_all := lw_g (lw_at lw_m5 146 rfl) rfl
theorem q1234 : (Jvm.Cond.instanceMethod ({ cls := "CoverHouse$Sign$2", name := "holds", desc := "(II)Z" } : Jvm.MethodName)) ∈ lw_all := lw_g (lw_at lw_m5 147 rfl) rfl
theorem q1235 : (Jvm.Cond.code ({ cls := "CoverHouse$Sign$2", name := "holds", desc := "(II)Z" } : Jvm.MethodName) prog_21_method_2_code (3 : Nat) (Option.some Jvm.ClassFile.FieldType.boolean)) ∈ lw_all := lw_g (lw_at lw_m5 148 rfl) rfl
theorem q2704 : (Jvm.Cond.castable "CoverHouse$Sign$2" "java/lang/Object") ∈ lw_tbl := lw_at lw_m11 177 rfl

/-! CoverHouse$Sign$3 -/
set_option maxRecDepth 100000
def RX24 : String := "CoverHouse$Sign$3"
abbrev cX24_holds : ByteArray := prog_22_method_2_code
def yX24_holds : MethodName := ⟨RX24, "holds", "(II)Z"⟩
def dkwX24_holds_0 : List UInt8 := [27, 28, 164, 0, 7, 4, 167, 0, 4, 3, 172]
abbrev dktX24_holds_0 : List UInt8 := dkwX24_holds_0 ++ []
theorem dksX24_holds_0 : cX24_holds.data.toList.drop 0 = dktX24_holds_0 := by decide +kernel
theorem dX24_holds_0 : decode cX24_holds 0 = .ok (.iload_n 1, 1) := dk_27 (dk_at dksX24_holds_0 0 rfl rfl)
theorem dX24_holds_1 : decode cX24_holds 1 = .ok (.iload_n 2, 1) := dk_28 (dk_at dksX24_holds_0 1 rfl rfl)
theorem dX24_holds_2 : decode cX24_holds 2 = .ok (.if_icmp .le 7, 3) := dk_164 0 7 (dk_at dksX24_holds_0 2 rfl rfl)
theorem dX24_holds_5 : decode cX24_holds 5 = .ok (.iconst 1, 1) := dk_4 (dk_at dksX24_holds_0 5 rfl rfl)
theorem dX24_holds_6 : decode cX24_holds 6 = .ok (.goto 4, 3) := dk_167 0 4 (dk_at dksX24_holds_0 6 rfl rfl)
theorem dX24_holds_9 : decode cX24_holds 9 = .ok (.iconst 0, 1) := dk_3 (dk_at dksX24_holds_0 9 rfl rfl)
theorem dX24_holds_10 : decode cX24_holds 10 = .ok (.ireturn, 1) := dk_172 (dk_at dksX24_holds_0 10 rfl rfl)
theorem q377 : (Jvm.Cond.selects "CoverHouse$Sign$3" ({ cls := "java/lang/Object", name := "getClass", desc := "()Ljava/lang/Class;" } : Jvm.MethodName) ({ cls := "java/lang/Object", name := "getClass", desc := "()Ljava/lang/Class;" } : Jvm.MethodName)) ∈ lw_all := lw_g (lw_at lw_m2 10 rfl) rfl
theorem q1236 : (Jvm.Cond.selects "CoverHouse$Sign$3" ({ cls := "CoverHouse$Sign", name := "holds", desc := "(II)Z" } : Jvm.MethodName) ({ cls := "CoverHouse$Sign$3", name := "holds", desc := "(II)Z" } : Jvm.MethodName)) ∈ lw_all := lw_g (lw_at lw_m5 149 rfl) rfl
theorem q1237 : (Jvm.Cond.instanceMethod ({ cls := "CoverHouse$Sign$3", name := "holds", desc := "(II)Z" } : Jvm.MethodName)) ∈ lw_all := lw_g (lw_at lw_m5 150 rfl) rfl
theorem q1238 : (Jvm.Cond.code ({ cls := "CoverHouse$Sign$3", name := "holds", desc := "(II)Z" } : Jvm.MethodName) prog_22_method_2_code (3 : Nat) (Option.some Jvm.ClassFile.FieldType.boolean)) ∈ lw_all := lw_g (lw_at lw_m5 151 rfl) rfl
theorem q2705 : (Jvm.Cond.castable "CoverHouse$Sign$3" "java/lang/Object") ∈ lw_tbl := lw_at lw_m11 178 rfl

/-! CoverHouse$Sign$4 -/
set_option maxRecDepth 100000
def RX25 : String := "CoverHouse$Sign$4"
abbrev cX25_holds : ByteArray := prog_23_method_2_code
def yX25_holds : MethodName := ⟨RX25, "holds", "(II)Z"⟩
def dkwX25_holds_0 : List UInt8 := [27, 28, 163, 0, 7, 4, 167, 0, 4, 3, 172]
abbrev dktX25_holds_0 : List UInt8 := dkwX25_holds_0 ++ []
theorem dksX25_holds_0 : cX25_holds.data.toList.drop 0 = dktX25_holds_0 := by decide +kernel
theorem dX25_holds_0 : decode cX25_holds 0 = .ok (.iload_n 1, 1) := dk_27 (dk_at dksX25_holds_0 0 rfl rfl)
theorem dX25_holds_1 : decode cX25_holds 1 = .ok (.iload_n 2, 1) := dk_28 (dk_at dksX25_holds_0 1 rfl rfl)
theorem dX25_holds_2 : decode cX25_holds 2 = .ok (.if_icmp .gt 7, 3) := dk_163 0 7 (dk_at dksX25_holds_0 2 rfl rfl)
theorem dX25_holds_5 : decode cX25_holds 5 = .ok (.iconst 1, 1) := dk_4 (dk_at dksX25_holds_0 5 rfl rfl)
theorem dX25_holds_6 : decode cX25_holds 6 = .ok (.goto 4, 3) := dk_167 0 4 (dk_at dksX25_holds_0 6 rfl rfl)
theorem dX25_holds_9 : decode cX25_holds 9 = .ok (.iconst 0, 1) := dk_3 (dk_at dksX25_holds_0 9 rfl rfl)
theorem dX25_holds_10 : decode cX25_holds 10 = .ok (.ireturn, 1) := dk_172 (dk_at dksX25_holds_0 10 rfl rfl)
theorem q378 : (Jvm.Cond.selects "CoverHouse$Sign$4" ({ cls := "java/lang/Object", name := "getClass", desc := "()Ljava/lang/Class;" } : Jvm.MethodName) ({ cls := "java/lang/Object", name := "getClass", desc := "()Ljava/lang/Class;" } : Jvm.MethodName)) ∈ lw_all := lw_g (lw_at lw_m2 11 rfl) rfl
theorem q1239 : (Jvm.Cond.selects "CoverHouse$Sign$4" ({ cls := "CoverHouse$Sign", name := "holds", desc := "(II)Z" } : Jvm.MethodName) ({ cls := "CoverHouse$Sign$4", name := "holds", desc := "(II)Z" } : Jvm.MethodName)) ∈ lw_all := lw_g (lw_at lw_m5 152 rfl) rfl
theorem q1240 : (Jvm.Cond.instanceMethod ({ cls := "CoverHouse$Sign$4", name := "holds", desc := "(II)Z" } : Jvm.MethodName)) ∈ lw_all := lw_g (lw_at lw_m5 153 rfl) rfl
theorem q1241 : (Jvm.Cond.code ({ cls := "CoverHouse$Sign$4", name := "holds", desc := "(II)Z" } : Jvm.MethodName) prog_23_method_2_code (3 : Nat) (Option.some Jvm.ClassFile.FieldType.boolean)) ∈ lw_all := lw_g (lw_at lw_m5 154 rfl) rfl
theorem q2706 : (Jvm.Cond.castable "CoverHouse$Sign$4" "java/lang/Object") ∈ lw_tbl := lw_at lw_m11 179 rfl

/-! CoverHouse$Sign$5 -/
set_option maxRecDepth 100000
def RX26 : String := "CoverHouse$Sign$5"
abbrev cX26_holds : ByteArray := prog_24_method_2_code
def yX26_holds : MethodName := ⟨RX26, "holds", "(II)Z"⟩
def dkwX26_holds_0 : List UInt8 := [27, 28, 161, 0, 7, 4, 167, 0, 4, 3, 172]
abbrev dktX26_holds_0 : List UInt8 := dkwX26_holds_0 ++ []
theorem dksX26_holds_0 : cX26_holds.data.toList.drop 0 = dktX26_holds_0 := by decide +kernel
theorem dX26_holds_0 : decode cX26_holds 0 = .ok (.iload_n 1, 1) := dk_27 (dk_at dksX26_holds_0 0 rfl rfl)
theorem dX26_holds_1 : decode cX26_holds 1 = .ok (.iload_n 2, 1) := dk_28 (dk_at dksX26_holds_0 1 rfl rfl)
theorem dX26_holds_2 : decode cX26_holds 2 = .ok (.if_icmp .lt 7, 3) := dk_161 0 7 (dk_at dksX26_holds_0 2 rfl rfl)
theorem dX26_holds_5 : decode cX26_holds 5 = .ok (.iconst 1, 1) := dk_4 (dk_at dksX26_holds_0 5 rfl rfl)
theorem dX26_holds_6 : decode cX26_holds 6 = .ok (.goto 4, 3) := dk_167 0 4 (dk_at dksX26_holds_0 6 rfl rfl)
theorem dX26_holds_9 : decode cX26_holds 9 = .ok (.iconst 0, 1) := dk_3 (dk_at dksX26_holds_0 9 rfl rfl)
theorem dX26_holds_10 : decode cX26_holds 10 = .ok (.ireturn, 1) := dk_172 (dk_at dksX26_holds_0 10 rfl rfl)
theorem q379 : (Jvm.Cond.selects "CoverHouse$Sign$5" ({ cls := "java/lang/Object", name := "getClass", desc := "()Ljava/lang/Class;" } : Jvm.MethodName) ({ cls := "java/lang/Object", name := "getClass", desc := "()Ljava/lang/Class;" } : Jvm.MethodName)) ∈ lw_all := lw_g (lw_at lw_m2 12 rfl) rfl
theorem q1242 : (Jvm.Cond.selects "CoverHouse$Sign$5" ({ cls := "CoverHouse$Sign", name := "holds", desc := "(II)Z" } : Jvm.MethodName) ({ cls := "CoverHouse$Sign$5", name := "holds", desc := "(II)Z" } : Jvm.MethodName)) ∈ lw_all := lw_g (lw_at lw_m5 155 rfl) rfl
theorem q1243 : (Jvm.Cond.instanceMethod ({ cls := "CoverHouse$Sign$5", name := "holds", desc := "(II)Z" } : Jvm.MethodName)) ∈ lw_all := lw_g (lw_at lw_m5 156 rfl) rfl
theorem q1244 : (Jvm.Cond.code ({ cls := "CoverHouse$Sign$5", name := "holds", desc := "(II)Z" } : Jvm.MethodName) prog_24_method_2_code (3 : Nat) (Option.some Jvm.ClassFile.FieldType.boolean)) ∈ lw_all := lw_g (lw_at lw_m5 157 rfl) rfl
theorem q2707 : (Jvm.Cond.castable "CoverHouse$Sign$5" "java/lang/Object") ∈ lw_tbl := lw_at lw_m11 180 rfl

/-! CoverHouse$Sign$6 -/
set_option maxRecDepth 100000
def RX27 : String := "CoverHouse$Sign$6"
abbrev cX27_holds : ByteArray := prog_25_method_2_code
def yX27_holds : MethodName := ⟨RX27, "holds", "(II)Z"⟩
def dkwX27_holds_0 : List UInt8 := [27, 28, 159, 0, 7, 4, 167, 0, 4, 3, 172]
abbrev dktX27_holds_0 : List UInt8 := dkwX27_holds_0 ++ []
theorem dksX27_holds_0 : cX27_holds.data.toList.drop 0 = dktX27_holds_0 := by decide +kernel
theorem dX27_holds_0 : decode cX27_holds 0 = .ok (.iload_n 1, 1) := dk_27 (dk_at dksX27_holds_0 0 rfl rfl)
theorem dX27_holds_1 : decode cX27_holds 1 = .ok (.iload_n 2, 1) := dk_28 (dk_at dksX27_holds_0 1 rfl rfl)
theorem dX27_holds_2 : decode cX27_holds 2 = .ok (.if_icmp .eq 7, 3) := dk_159 0 7 (dk_at dksX27_holds_0 2 rfl rfl)
theorem dX27_holds_5 : decode cX27_holds 5 = .ok (.iconst 1, 1) := dk_4 (dk_at dksX27_holds_0 5 rfl rfl)
theorem dX27_holds_6 : decode cX27_holds 6 = .ok (.goto 4, 3) := dk_167 0 4 (dk_at dksX27_holds_0 6 rfl rfl)
theorem dX27_holds_9 : decode cX27_holds 9 = .ok (.iconst 0, 1) := dk_3 (dk_at dksX27_holds_0 9 rfl rfl)
theorem dX27_holds_10 : decode cX27_holds 10 = .ok (.ireturn, 1) := dk_172 (dk_at dksX27_holds_0 10 rfl rfl)
theorem q380 : (Jvm.Cond.selects "CoverHouse$Sign$6" ({ cls := "java/lang/Object", name := "getClass", desc := "()Ljava/lang/Class;" } : Jvm.MethodName) ({ cls := "java/lang/Object", name := "getClass", desc := "()Ljava/lang/Class;" } : Jvm.MethodName)) ∈ lw_all := lw_g (lw_at lw_m2 13 rfl) rfl
theorem q1245 : (Jvm.Cond.selects "CoverHouse$Sign$6" ({ cls := "CoverHouse$Sign", name := "holds", desc := "(II)Z" } : Jvm.MethodName) ({ cls := "CoverHouse$Sign$6", name := "holds", desc := "(II)Z" } : Jvm.MethodName)) ∈ lw_all := lw_g (lw_at lw_m5 158 rfl) rfl
theorem q1246 : (Jvm.Cond.instanceMethod ({ cls := "CoverHouse$Sign$6", name := "holds", desc := "(II)Z" } : Jvm.MethodName)) ∈ lw_all := lw_g (lw_at lw_m5 159 rfl) rfl
theorem q1247 : (Jvm.Cond.code ({ cls := "CoverHouse$Sign$6", name := "holds", desc := "(II)Z" } : Jvm.MethodName) prog_25_method_2_code (3 : Nat) (Option.some Jvm.ClassFile.FieldType.boolean)) ∈ lw_all := lw_g (lw_at lw_m5 160 rfl) rfl
theorem q2708 : (Jvm.Cond.castable "CoverHouse$Sign$6" "java/lang/Object") ∈ lw_tbl := lw_at lw_m11 181 rfl
