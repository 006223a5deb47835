/-! SleeveSlipsModel -/
set_option maxRecDepth 100000
def RX10 : String := "SleeveSlipsModel"
def TX10 : u_T := fun k => match k with
  | 0 => ("SleeveSlipsModel", "w", "[I", true)
  | 1 => ("SleeveSlipsModel", "isKept", "[Z", true)
  | 2 => ("SleeveSlipsModel", "people", "I", false)
  | 3 => ("SleeveSlipsModel", "room", "[I", true)
  | 4 => ("SleeveSlipsModel", "work", "[I", true)
  | 5 => ("SleeveSlipsModel", "price", "[I", true)
  | 6 => ("SleeveSlipsModel", "askings", "I", false)
  | 7 => ("SleeveSlipsModel", "asked", "[I", true)
  | 8 => ("SleeveSlipsModel", "hangs", "I", false)
  | 9 => ("SleeveSlipsModel", "hung", "[I", true)
  | 10 => ("SleeveSlipsModel", "tenths", "[I", true)
  | 11 => ("SleeveSlipsModel", "sortWorth", "[I", true)
  | 12 => ("SleeveSlipsModel", "sortDays", "[I", true)
  | 13 => ("SleeveSlipsModel", "sorts", "I", false)
  | 14 => ("SleeveSlipsModel", "text", "[I", true)
  | 15 => ("SleeveSlipsModel", "texted", "I", false)
  | 16 => ("SleeveSlipsModel", "trace", "J", false)
  | 17 => ("SleeveSlipsModel", "at", "I", false)
  | 18 => ("SleeveSlipsModel", "fault", "I", false)
  | 19 => ("SleeveSlipsModel", "readPeople", "I", false)
  | 20 => ("SleeveSlipsModel", "readPerson", "[I", true)
  | 21 => ("SleeveSlipsModel", "readAskings", "I", false)
  | 22 => ("SleeveSlipsModel", "readAsked", "[I", true)
  | 23 => ("SleeveSlipsModel", "readHangs", "I", false)
  | 24 => ("SleeveSlipsModel", "readHung", "[I", true)
  | 25 => ("SleeveSlipsModel", "rest", "[I", true)
  | 26 => ("SleeveSlipsModel", "brings", "[J", true)
  | _ => ("SleeveSlipsModel", "later", "[J", true)
def tyX10 : Nat → FieldType := fun k => match k with
  | 0 => .array .int
  | 1 => .array .boolean
  | 2 => .int
  | 3 => .array .int
  | 4 => .array .int
  | 5 => .array .int
  | 6 => .int
  | 7 => .array .int
  | 8 => .int
  | 9 => .array .int
  | 10 => .array .int
  | 11 => .array .int
  | 12 => .array .int
  | 13 => .int
  | 14 => .array .int
  | 15 => .int
  | 16 => .long
  | 17 => .int
  | 18 => .int
  | 19 => .int
  | 20 => .array .int
  | 21 => .int
  | 22 => .array .int
  | 23 => .int
  | 24 => .array .int
  | 25 => .array .int
  | 26 => .array .long
  | _ => .array .long
abbrev wsX100 : List Cond := u_ws RX10 TX10 28
set_option maxRecDepth 100000 in
theorem nmX10 : ∀ a, a < 28 → ∀ b, b < 28 → a ≠ b → (TX10 a).2.1 ≠ (TX10 b).2.1 := by decide +kernel
set_option maxRecDepth 100000 in
theorem tyX10_ok : ∀ k, k < 28 → parseFieldDescriptor (TX10 k).2.2.1 = some (tyX10 k) := by decide +kernel
abbrev cX10_init : ByteArray := prog_14_method_1_code
def yX10_init : MethodName := ⟨RX10, "<init>", "()V"⟩
def dkwX10_init_5 : List UInt8 := [181, 0, 53, 42, 16, 12, 188, 11, 181, 0, 56, 42, 16, 12, 188, 11, 181, 0, 60, 177]
abbrev dktX10_init_5 : List UInt8 := dkwX10_init_5 ++ []
def dkwX10_init_4 : List UInt8 := [181, 0, 44, 42, 16, 40, 188, 10, 181, 0, 47, 42, 16, 16, 188, 10, 181, 0, 50, 42, 16, 8, 188, 10]
abbrev dktX10_init_4 : List UInt8 := dkwX10_init_4 ++ dktX10_init_5
def dkwX10_init_3 : List UInt8 := [181, 0, 35, 42, 6, 188, 10, 181, 0, 38, 42, 17, 1, 44, 188, 10, 181, 0, 41, 42, 16, 12, 188, 10]
abbrev dktX10_init_3 : List UInt8 := dkwX10_init_3 ++ dktX10_init_4
def dkwX10_init_2 : List UInt8 := [181, 0, 26, 42, 16, 16, 188, 10, 181, 0, 29, 42, 6, 188, 10, 181, 0, 32, 42, 6, 188, 10]
abbrev dktX10_init_2 : List UInt8 := dkwX10_init_2 ++ dktX10_init_3
def dkwX10_init_1 : List UInt8 := [181, 0, 17, 42, 7, 188, 10, 181, 0, 20, 42, 7, 188, 10, 181, 0, 23, 42, 16, 40, 188, 10]
abbrev dktX10_init_1 : List UInt8 := dkwX10_init_1 ++ dktX10_init_2
def dkwX10_init_0 : List UInt8 := [42, 183, 0, 1, 42, 17, 1, 44, 188, 10, 181, 0, 7, 42, 5, 188, 4, 181, 0, 13, 42, 7, 188, 10]
abbrev dktX10_init_0 : List UInt8 := dkwX10_init_0 ++ dktX10_init_1
theorem dksX10_init_0 : cX10_init.data.toList.drop 0 = dktX10_init_0 := by decide +kernel
theorem dksX10_init_1 : cX10_init.data.toList.drop 24 = dktX10_init_1 := dk_seg dksX10_init_0 24 rfl rfl
theorem dksX10_init_2 : cX10_init.data.toList.drop 46 = dktX10_init_2 := dk_seg dksX10_init_1 22 rfl rfl
theorem dksX10_init_3 : cX10_init.data.toList.drop 68 = dktX10_init_3 := dk_seg dksX10_init_2 22 rfl rfl
theorem dksX10_init_4 : cX10_init.data.toList.drop 92 = dktX10_init_4 := dk_seg dksX10_init_3 24 rfl rfl
theorem dksX10_init_5 : cX10_init.data.toList.drop 116 = dktX10_init_5 := dk_seg dksX10_init_4 24 rfl rfl
theorem dX10_init_0 : decode cX10_init 0 = .ok (.aload_n 0, 1) := dk_42 (dk_at dksX10_init_0 0 rfl rfl)
theorem dX10_init_1 : decode cX10_init 1 = .ok (.invokespecial 1, 3) := dk_183 0 1 (dk_at dksX10_init_0 1 rfl rfl)
theorem dX10_init_4 : decode cX10_init 4 = .ok (.aload_n 0, 1) := dk_42 (dk_at dksX10_init_0 4 rfl rfl)
theorem dX10_init_5 : decode cX10_init 5 = .ok (.sipush 300, 3) := dk_17 1 44 (dk_at dksX10_init_0 5 rfl rfl)
theorem dX10_init_8 : decode cX10_init 8 = .ok (.newarray .int, 2) := dk_188_10 (dk_at dksX10_init_0 8 rfl rfl)
theorem dX10_init_10 : decode cX10_init 10 = .ok (.putfield 7, 3) := dk_181 0 7 (dk_at dksX10_init_0 10 rfl rfl)
theorem dX10_init_13 : decode cX10_init 13 = .ok (.aload_n 0, 1) := dk_42 (dk_at dksX10_init_0 13 rfl rfl)
theorem dX10_init_14 : decode cX10_init 14 = .ok (.iconst 2, 1) := dk_5 (dk_at dksX10_init_0 14 rfl rfl)
theorem dX10_init_15 : decode cX10_init 15 = .ok (.newarray .boolean, 2) := dk_188_4 (dk_at dksX10_init_0 15 rfl rfl)
theorem dX10_init_17 : decode cX10_init 17 = .ok (.putfield 13, 3) := dk_181 0 13 (dk_at dksX10_init_0 17 rfl rfl)
theorem dX10_init_20 : decode cX10_init 20 = .ok (.aload_n 0, 1) := dk_42 (dk_at dksX10_init_0 20 rfl rfl)
theorem dX10_init_21 : decode cX10_init 21 = .ok (.iconst 4, 1) := dk_7 (dk_at dksX10_init_0 21 rfl rfl)
theorem dX10_init_22 : decode cX10_init 22 = .ok (.newarray .int, 2) := dk_188_10 (dk_at dksX10_init_0 22 rfl rfl)
theorem dX10_init_24 : decode cX10_init 24 = .ok (.putfield 17, 3) := dk_181 0 17 (dk_at dksX10_init_1 0 rfl rfl)
theorem dX10_init_27 : decode cX10_init 27 = .ok (.aload_n 0, 1) := dk_42 (dk_at dksX10_init_1 3 rfl rfl)
theorem dX10_init_28 : decode cX10_init 28 = .ok (.iconst 4, 1) := dk_7 (dk_at dksX10_init_1 4 rfl rfl)
theorem dX10_init_29 : decode cX10_init 29 = .ok (.newarray .int, 2) := dk_188_10 (dk_at dksX10_init_1 5 rfl rfl)
theorem dX10_init_31 : decode cX10_init 31 = .ok (.putfield 20, 3) := dk_181 0 20 (dk_at dksX10_init_1 7 rfl rfl)
theorem dX10_init_34 : decode cX10_init 34 = .ok (.aload_n 0, 1) := dk_42 (dk_at dksX10_init_1 10 rfl rfl)
theorem dX10_init_35 : decode cX10_init 35 = .ok (.iconst 4, 1) := dk_7 (dk_at dksX10_init_1 11 rfl rfl)
theorem dX10_init_36 : decode cX10_init 36 = .ok (.newarray .int, 2) := dk_188_10 (dk_at dksX10_init_1 12 rfl rfl)
theorem dX10_init_38 : decode cX10_init 38 = .ok (.putfield 23, 3) := dk_181 0 23 (dk_at dksX10_init_1 14 rfl rfl)
theorem dX10_init_41 : decode cX10_init 41 = .ok (.aload_n 0, 1) := dk_42 (dk_at dksX10_init_1 17 rfl rfl)
theorem dX10_init_42 : decode cX10_init 42 = .ok (.bipush 40, 2) := dk_16 40 (dk_at dksX10_init_1 18 rfl rfl)
theorem dX10_init_44 : decode cX10_init 44 = .ok (.newarray .int, 2) := dk_188_10 (dk_at dksX10_init_1 20 rfl rfl)
theorem dX10_init_46 : decode cX10_init 46 = .ok (.putfield 26, 3) := dk_181 0 26 (dk_at dksX10_init_2 0 rfl rfl)
theorem dX10_init_49 : decode cX10_init 49 = .ok (.aload_n 0, 1) := dk_42 (dk_at dksX10_init_2 3 rfl rfl)
theorem dX10_init_50 : decode cX10_init 50 = .ok (.bipush 16, 2) := dk_16 16 (dk_at dksX10_init_2 4 rfl rfl)
theorem dX10_init_52 : decode cX10_init 52 = .ok (.newarray .int, 2) := dk_188_10 (dk_at dksX10_init_2 6 rfl rfl)
theorem dX10_init_54 : decode cX10_init 54 = .ok (.putfield 29, 3) := dk_181 0 29 (dk_at dksX10_init_2 8 rfl rfl)
theorem dX10_init_57 : decode cX10_init 57 = .ok (.aload_n 0, 1) := dk_42 (dk_at dksX10_init_2 11 rfl rfl)
theorem dX10_init_58 : decode cX10_init 58 = .ok (.iconst 3, 1) := dk_6 (dk_at dksX10_init_2 12 rfl rfl)
theorem dX10_init_59 : decode cX10_init 59 = .ok (.newarray .int, 2) := dk_188_10 (dk_at dksX10_init_2 13 rfl rfl)
theorem dX10_init_61 : decode cX10_init 61 = .ok (.putfield 32, 3) := dk_181 0 32 (dk_at dksX10_init_2 15 rfl rfl)
theorem dX10_init_64 : decode cX10_init 64 = .ok (.aload_n 0, 1) := dk_42 (dk_at dksX10_init_2 18 rfl rfl)
theorem dX10_init_65 : decode cX10_init 65 = .ok (.iconst 3, 1) := dk_6 (dk_at dksX10_init_2 19 rfl rfl)
theorem dX10_init_66 : decode cX10_init 66 = .ok (.newarray .int, 2) := dk_188_10 (dk_at dksX10_init_2 20 rfl rfl)
theorem dX10_init_68 : decode cX10_init 68 = .ok (.putfield 35, 3) := dk_181 0 35 (dk_at dksX10_init_3 0 rfl rfl)
theorem dX10_init_71 : decode cX10_init 71 = .ok (.aload_n 0, 1) := dk_42 (dk_at dksX10_init_3 3 rfl rfl)
theorem dX10_init_72 : decode cX10_init 72 = .ok (.iconst 3, 1) := dk_6 (dk_at dksX10_init_3 4 rfl rfl)
theorem dX10_init_73 : decode cX10_init 73 = .ok (.newarray .int, 2) := dk_188_10 (dk_at dksX10_init_3 5 rfl rfl)
theorem dX10_init_75 : decode cX10_init 75 = .ok (.putfield 38, 3) := dk_181 0 38 (dk_at dksX10_init_3 7 rfl rfl)
theorem dX10_init_78 : decode cX10_init 78 = .ok (.aload_n 0, 1) := dk_42 (dk_at dksX10_init_3 10 rfl rfl)
theorem dX10_init_79 : decode cX10_init 79 = .ok (.sipush 300, 3) := dk_17 1 44 (dk_at dksX10_init_3 11 rfl rfl)
theorem dX10_init_82 : decode cX10_init 82 = .ok (.newarray .int, 2) := dk_188_10 (dk_at dksX10_init_3 14 rfl rfl)
theorem dX10_init_84 : decode cX10_init 84 = .ok (.putfield 41, 3) := dk_181 0 41 (dk_at dksX10_init_3 16 rfl rfl)
theorem dX10_init_87 : decode cX10_init 87 = .ok (.aload_n 0, 1) := dk_42 (dk_at dksX10_init_3 19 rfl rfl)
theorem dX10_init_88 : decode cX10_init 88 = .ok (.bipush 12, 2) := dk_16 12 (dk_at dksX10_init_3 20 rfl rfl)
theorem dX10_init_90 : decode cX10_init 90 = .ok (.newarray .int, 2) := dk_188_10 (dk_at dksX10_init_3 22 rfl rfl)
theorem dX10_init_92 : decode cX10_init 92 = .ok (.putfield 44, 3) := dk_181 0 44 (dk_at dksX10_init_4 0 rfl rfl)
theorem dX10_init_95 : decode cX10_init 95 = .ok (.aload_n 0, 1) := dk_42 (dk_at dksX10_init_4 3 rfl rfl)
theorem dX10_init_96 : decode cX10_init 96 = .ok (.bipush 40, 2) := dk_16 40 (dk_at dksX10_init_4 4 rfl rfl)
theorem dX10_init_98 : decode cX10_init 98 = .ok (.newarray .int, 2) := dk_188_10 (dk_at dksX10_init_4 6 rfl rfl)
theorem dX10_init_100 : decode cX10_init 100 = .ok (.putfield 47, 3) := dk_181 0 47 (dk_at dksX10_init_4 8 rfl rfl)
theorem dX10_init_103 : decode cX10_init 103 = .ok (.aload_n 0, 1) := dk_42 (dk_at dksX10_init_4 11 rfl rfl)
theorem dX10_init_104 : decode cX10_init 104 = .ok (.bipush 16, 2) := dk_16 16 (dk_at dksX10_init_4 12 rfl rfl)
theorem dX10_init_106 : decode cX10_init 106 = .ok (.newarray .int, 2) := dk_188_10 (dk_at dksX10_init_4 14 rfl rfl)
theorem dX10_init_108 : decode cX10_init 108 = .ok (.putfield 50, 3) := dk_181 0 50 (dk_at dksX10_init_4 16 rfl rfl)
theorem dX10_init_111 : decode cX10_init 111 = .ok (.aload_n 0, 1) := dk_42 (dk_at dksX10_init_4 19 rfl rfl)
theorem dX10_init_112 : decode cX10_init 112 = .ok (.bipush 8, 2) := dk_16 8 (dk_at dksX10_init_4 20 rfl rfl)
theorem dX10_init_114 : decode cX10_init 114 = .ok (.newarray .int, 2) := dk_188_10 (dk_at dksX10_init_4 22 rfl rfl)
theorem dX10_init_116 : decode cX10_init 116 = .ok (.putfield 53, 3) := dk_181 0 53 (dk_at dksX10_init_5 0 rfl rfl)
theorem dX10_init_119 : decode cX10_init 119 = .ok (.aload_n 0, 1) := dk_42 (dk_at dksX10_init_5 3 rfl rfl)
theorem dX10_init_120 : decode cX10_init 120 = .ok (.bipush 12, 2) := dk_16 12 (dk_at dksX10_init_5 4 rfl rfl)
theorem dX10_init_122 : decode cX10_init 122 = .ok (.newarray .long, 2) := dk_188_11 (dk_at dksX10_init_5 6 rfl rfl)
theorem dX10_init_124 : decode cX10_init 124 = .ok (.putfield 56, 3) := dk_181 0 56 (dk_at dksX10_init_5 8 rfl rfl)
theorem dX10_init_127 : decode cX10_init 127 = .ok (.aload_n 0, 1) := dk_42 (dk_at dksX10_init_5 11 rfl rfl)
theorem dX10_init_128 : decode cX10_init 128 = .ok (.bipush 12, 2) := dk_16 12 (dk_at dksX10_init_5 12 rfl rfl)
theorem dX10_init_130 : decode cX10_init 130 = .ok (.newarray .long, 2) := dk_188_11 (dk_at dksX10_init_5 14 rfl rfl)
theorem dX10_init_132 : decode cX10_init 132 = .ok (.putfield 60, 3) := dk_181 0 60 (dk_at dksX10_init_5 16 rfl rfl)
theorem dX10_init_135 : decode cX10_init 135 = .ok (.return_, 1) := dk_177 (dk_at dksX10_init_5 19 rfl rfl)
abbrev cX10_type : ByteArray := prog_14_method_9_code
def yX10_type : MethodName := ⟨RX10, "type", "(JI)I"⟩
def dkwX10_type_3 : List UInt8 := [132, 4, 255, 167, 255, 217, 42, 180, 0, 76, 172]
abbrev dktX10_type_3 : List UInt8 := dkwX10_type_3 ++ []
def dkwX10_type_2 : List UInt8 := [31, 16, 8, 21, 4, 104, 123, 20, 0, 79, 127, 136, 79, 42, 89, 180, 0, 76, 4, 96, 181, 0, 76]
abbrev dktX10_type_2 : List UInt8 := dkwX10_type_2 ++ dktX10_type_3
def dkwX10_type_1 : List UInt8 := [164, 0, 6, 16, 253, 172, 29, 4, 100, 54, 4, 21, 4, 155, 0, 40, 42, 180, 0, 41, 42, 180, 0, 76]
abbrev dktX10_type_1 : List UInt8 := dkwX10_type_1 ++ dktX10_type_2
def dkwX10_type_0 : List UInt8 := [29, 133, 10, 20, 0, 74, 184, 0, 67, 154, 0, 5, 2, 172, 42, 180, 0, 76, 29, 96, 17, 1, 44]
abbrev dktX10_type_0 : List UInt8 := dkwX10_type_0 ++ dktX10_type_1
theorem dksX10_type_0 : cX10_type.data.toList.drop 0 = dktX10_type_0 := by decide +kernel
theorem dksX10_type_1 : cX10_type.data.toList.drop 23 = dktX10_type_1 := dk_seg dksX10_type_0 23 rfl rfl
theorem dksX10_type_2 : cX10_type.data.toList.drop 47 = dktX10_type_2 := dk_seg dksX10_type_1 24 rfl rfl
theorem dksX10_type_3 : cX10_type.data.toList.drop 70 = dktX10_type_3 := dk_seg dksX10_type_2 23 rfl rfl
theorem dX10_type_0 : decode cX10_type 0 = .ok (.iload_n 3, 1) := dk_29 (dk_at dksX10_type_0 0 rfl rfl)
theorem dX10_type_1 : decode cX10_type 1 = .ok (.i2l, 1) := dk_133 (dk_at dksX10_type_0 1 rfl rfl)
theorem dX10_type_2 : decode cX10_type 2 = .ok (.lconst 1, 1) := dk_10 (dk_at dksX10_type_0 2 rfl rfl)
theorem dX10_type_3 : decode cX10_type 3 = .ok (.ldc2_w 74, 3) := dk_20 0 74 (dk_at dksX10_type_0 3 rfl rfl)
theorem dX10_type_6 : decode cX10_type 6 = .ok (.invokestatic 67, 3) := dk_184 0 67 (dk_at dksX10_type_0 6 rfl rfl)
theorem dX10_type_9 : decode cX10_type 9 = .ok (.ifCond .ne 5, 3) := dk_154 0 5 (dk_at dksX10_type_0 9 rfl rfl)
theorem dX10_type_12 : decode cX10_type 12 = .ok (.iconst (-1), 1) := dk_2 (dk_at dksX10_type_0 12 rfl rfl)
theorem dX10_type_13 : decode cX10_type 13 = .ok (.ireturn, 1) := dk_172 (dk_at dksX10_type_0 13 rfl rfl)
theorem dX10_type_14 : decode cX10_type 14 = .ok (.aload_n 0, 1) := dk_42 (dk_at dksX10_type_0 14 rfl rfl)
theorem dX10_type_15 : decode cX10_type 15 = .ok (.getfield 76, 3) := dk_180 0 76 (dk_at dksX10_type_0 15 rfl rfl)
theorem dX10_type_18 : decode cX10_type 18 = .ok (.iload_n 3, 1) := dk_29 (dk_at dksX10_type_0 18 rfl rfl)
theorem dX10_type_19 : decode cX10_type 19 = .ok (.iadd, 1) := dk_96 (dk_at dksX10_type_0 19 rfl rfl)
theorem dX10_type_20 : decode cX10_type 20 = .ok (.sipush 300, 3) := dk_17 1 44 (dk_at dksX10_type_0 20 rfl rfl)
theorem dX10_type_23 : decode cX10_type 23 = .ok (.if_icmp .le 6, 3) := dk_164 0 6 (dk_at dksX10_type_1 0 rfl rfl)
theorem dX10_type_26 : decode cX10_type 26 = .ok (.bipush (-3), 2) := dk_16 253 (dk_at dksX10_type_1 3 rfl rfl)
theorem dX10_type_28 : decode cX10_type 28 = .ok (.ireturn, 1) := dk_172 (dk_at dksX10_type_1 5 rfl rfl)
theorem dX10_type_29 : decode cX10_type 29 = .ok (.iload_n 3, 1) := dk_29 (dk_at dksX10_type_1 6 rfl rfl)
theorem dX10_type_30 : decode cX10_type 30 = .ok (.iconst 1, 1) := dk_4 (dk_at dksX10_type_1 7 rfl rfl)
theorem dX10_type_31 : decode cX10_type 31 = .ok (.isub, 1) := dk_100 (dk_at dksX10_type_1 8 rfl rfl)
theorem dX10_type_32 : decode cX10_type 32 = .ok (.istore 4, 2) := dk_54 4 (dk_at dksX10_type_1 9 rfl rfl)
theorem dX10_type_34 : decode cX10_type 34 = .ok (.iload 4, 2) := dk_21 4 (dk_at dksX10_type_1 11 rfl rfl)
theorem dX10_type_36 : decode cX10_type 36 = .ok (.ifCond .lt 40, 3) := dk_155 0 40 (dk_at dksX10_type_1 13 rfl rfl)
theorem dX10_type_39 : decode cX10_type 39 = .ok (.aload_n 0, 1) := dk_42 (dk_at dksX10_type_1 16 rfl rfl)
theorem dX10_type_40 : decode cX10_type 40 = .ok (.getfield 41, 3) := dk_180 0 41 (dk_at dksX10_type_1 17 rfl rfl)
theorem dX10_type_43 : decode cX10_type 43 = .ok (.aload_n 0, 1) := dk_42 (dk_at dksX10_type_1 20 rfl rfl)
theorem dX10_type_44 : decode cX10_type 44 = .ok (.getfield 76, 3) := dk_180 0 76 (dk_at dksX10_type_1 21 rfl rfl)
theorem dX10_type_47 : decode cX10_type 47 = .ok (.lload_n 1, 1) := dk_31 (dk_at dksX10_type_2 0 rfl rfl)
theorem dX10_type_48 : decode cX10_type 48 = .ok (.bipush 8, 2) := dk_16 8 (dk_at dksX10_type_2 1 rfl rfl)
theorem dX10_type_50 : decode cX10_type 50 = .ok (.iload 4, 2) := dk_21 4 (dk_at dksX10_type_2 3 rfl rfl)
theorem dX10_type_52 : decode cX10_type 52 = .ok (.imul, 1) := dk_104 (dk_at dksX10_type_2 5 rfl rfl)
theorem dX10_type_53 : decode cX10_type 53 = .ok (.lshr, 1) := dk_123 (dk_at dksX10_type_2 6 rfl rfl)
theorem dX10_type_54 : decode cX10_type 54 = .ok (.ldc2_w 79, 3) := dk_20 0 79 (dk_at dksX10_type_2 7 rfl rfl)
theorem dX10_type_57 : decode cX10_type 57 = .ok (.land, 1) := dk_127 (dk_at dksX10_type_2 10 rfl rfl)
theorem dX10_type_58 : decode cX10_type 58 = .ok (.l2i, 1) := dk_136 (dk_at dksX10_type_2 11 rfl rfl)
theorem dX10_type_59 : decode cX10_type 59 = .ok (.iastore, 1) := dk_79 (dk_at dksX10_type_2 12 rfl rfl)
theorem dX10_type_60 : decode cX10_type 60 = .ok (.aload_n 0, 1) := dk_42 (dk_at dksX10_type_2 13 rfl rfl)
theorem dX10_type_61 : decode cX10_type 61 = .ok (.dup, 1) := dk_89 (dk_at dksX10_type_2 14 rfl rfl)
theorem dX10_type_62 : decode cX10_type 62 = .ok (.getfield 76, 3) := dk_180 0 76 (dk_at dksX10_type_2 15 rfl rfl)
theorem dX10_type_65 : decode cX10_type 65 = .ok (.iconst 1, 1) := dk_4 (dk_at dksX10_type_2 18 rfl rfl)
theorem dX10_type_66 : decode cX10_type 66 = .ok (.iadd, 1) := dk_96 (dk_at dksX10_type_2 19 rfl rfl)
theorem dX10_type_67 : decode cX10_type 67 = .ok (.putfield 76, 3) := dk_181 0 76 (dk_at dksX10_type_2 20 rfl rfl)
theorem dX10_type_70 : decode cX10_type 70 = .ok (.iinc 4 (-1), 3) := dk_132 4 255 (dk_at dksX10_type_3 0 rfl rfl)
theorem dX10_type_73 : decode cX10_type 73 = .ok (.goto (-39), 3) := dk_167 255 217 (dk_at dksX10_type_3 3 rfl rfl)
theorem dX10_type_76 : decode cX10_type 76 = .ok (.aload_n 0, 1) := dk_42 (dk_at dksX10_type_3 6 rfl rfl)
theorem dX10_type_77 : decode cX10_type 77 = .ok (.getfield 76, 3) := dk_180 0 76 (dk_at dksX10_type_3 7 rfl rfl)
theorem dX10_type_80 : decode cX10_type 80 = .ok (.ireturn, 1) := dk_172 (dk_at dksX10_type_3 10 rfl rfl)
abbrev cX10_in : ByteArray := prog_14_method_3_code
def yX10_in : MethodName := ⟨RX10, "in", "(JJJ)Z"⟩
def dkwX10_in_0 : List UInt8 := [30, 32, 148, 155, 0, 14, 30, 22, 4, 148, 157, 0, 7, 4, 167, 0, 4, 3, 172]
abbrev dktX10_in_0 : List UInt8 := dkwX10_in_0 ++ []
theorem dksX10_in_0 : cX10_in.data.toList.drop 0 = dktX10_in_0 := by decide +kernel
theorem dX10_in_0 : decode cX10_in 0 = .ok (.lload_n 0, 1) := dk_30 (dk_at dksX10_in_0 0 rfl rfl)
theorem dX10_in_1 : decode cX10_in 1 = .ok (.lload_n 2, 1) := dk_32 (dk_at dksX10_in_0 1 rfl rfl)
theorem dX10_in_2 : decode cX10_in 2 = .ok (.lcmp, 1) := dk_148 (dk_at dksX10_in_0 2 rfl rfl)
theorem dX10_in_3 : decode cX10_in 3 = .ok (.ifCond .lt 14, 3) := dk_155 0 14 (dk_at dksX10_in_0 3 rfl rfl)
theorem dX10_in_6 : decode cX10_in 6 = .ok (.lload_n 0, 1) := dk_30 (dk_at dksX10_in_0 6 rfl rfl)
theorem dX10_in_7 : decode cX10_in 7 = .ok (.lload 4, 2) := dk_22 4 (dk_at dksX10_in_0 7 rfl rfl)
theorem dX10_in_9 : decode cX10_in 9 = .ok (.lcmp, 1) := dk_148 (dk_at dksX10_in_0 9 rfl rfl)
theorem dX10_in_10 : decode cX10_in 10 = .ok (.ifCond .gt 7, 3) := dk_157 0 7 (dk_at dksX10_in_0 10 rfl rfl)
theorem dX10_in_13 : decode cX10_in 13 = .ok (.iconst 1, 1) := dk_4 (dk_at dksX10_in_0 13 rfl rfl)
theorem dX10_in_14 : decode cX10_in 14 = .ok (.goto 4, 3) := dk_167 0 4 (dk_at dksX10_in_0 14 rfl rfl)
theorem dX10_in_17 : decode cX10_in 17 = .ok (.iconst 0, 1) := dk_3 (dk_at dksX10_in_0 17 rfl rfl)
theorem dX10_in_18 : decode cX10_in 18 = .ok (.ireturn, 1) := dk_172 (dk_at dksX10_in_0 18 rfl rfl)
abbrev cX10_clear : ByteArray := prog_14_method_10_code
def yX10_clear : MethodName := ⟨RX10, "clear", "()I"⟩
def dkwX10_clear_0 : List UInt8 := [42, 180, 0, 76, 60, 42, 3, 181, 0, 76, 27, 172]
abbrev dktX10_clear_0 : List UInt8 := dkwX10_clear_0 ++ []
theorem dksX10_clear_0 : cX10_clear.data.toList.drop 0 = dktX10_clear_0 := by decide +kernel
theorem dX10_clear_0 : decode cX10_clear 0 = .ok (.aload_n 0, 1) := dk_42 (dk_at dksX10_clear_0 0 rfl rfl)
theorem dX10_clear_1 : decode cX10_clear 1 = .ok (.getfield 76, 3) := dk_180 0 76 (dk_at dksX10_clear_0 1 rfl rfl)
theorem dX10_clear_4 : decode cX10_clear 4 = .ok (.istore_n 1, 1) := dk_60 (dk_at dksX10_clear_0 4 rfl rfl)
theorem dX10_clear_5 : decode cX10_clear 5 = .ok (.aload_n 0, 1) := dk_42 (dk_at dksX10_clear_0 5 rfl rfl)
theorem dX10_clear_6 : decode cX10_clear 6 = .ok (.iconst 0, 1) := dk_3 (dk_at dksX10_clear_0 6 rfl rfl)
theorem dX10_clear_7 : decode cX10_clear 7 = .ok (.putfield 76, 3) := dk_181 0 76 (dk_at dksX10_clear_0 7 rfl rfl)
theorem dX10_clear_10 : decode cX10_clear 10 = .ok (.iload_n 1, 1) := dk_27 (dk_at dksX10_clear_0 10 rfl rfl)
theorem dX10_clear_11 : decode cX10_clear 11 = .ok (.ireturn, 1) := dk_172 (dk_at dksX10_clear_0 11 rfl rfl)
abbrev cX10_town : ByteArray := prog_14_method_15_code
def yX10_town : MethodName := ⟨RX10, "town", "()I"⟩
def dkwX10_town_11 : List UInt8 := [96, 172]
abbrev dktX10_town_11 : List UInt8 := dkwX10_town_11 ++ []
def dkwX10_town_10 : List UInt8 := [180, 0, 13, 4, 3, 84, 42, 3, 181, 0, 76, 42, 180, 0, 63, 42, 180, 0, 71, 96, 42, 180, 0, 133]
abbrev dktX10_town_10 : List UInt8 := dkwX10_town_10 ++ dktX10_town_11
def dkwX10_town_9 : List UInt8 := [162, 0, 16, 42, 180, 0, 7, 27, 3, 79, 132, 1, 1, 167, 255, 240, 42, 180, 0, 13, 3, 3, 84, 42]
abbrev dktX10_town_9 : List UInt8 := dkwX10_town_9 ++ dktX10_town_10
def dkwX10_town_8 : List UInt8 := [180, 0, 29, 27, 42, 180, 0, 50, 27, 46, 79, 132, 1, 1, 167, 255, 231, 3, 60, 27, 16, 100]
abbrev dktX10_town_8 : List UInt8 := dkwX10_town_8 ++ dktX10_town_9
def dkwX10_town_7 : List UInt8 := [167, 255, 231, 42, 42, 180, 0, 127, 181, 0, 133, 3, 60, 27, 5, 42, 180, 0, 133, 104, 162, 0, 21, 42]
abbrev dktX10_town_7 : List UInt8 := dkwX10_town_7 ++ dktX10_town_8
def dkwX10_town_6 : List UInt8 := [8, 42, 180, 0, 71, 104, 162, 0, 21, 42, 180, 0, 26, 27, 42, 180, 0, 47, 27, 46, 79, 132, 1, 1]
abbrev dktX10_town_6 : List UInt8 := dkwX10_town_6 ++ dktX10_town_7
def dkwX10_town_5 : List UInt8 := [6, 27, 104, 5, 96, 46, 79, 132, 1, 1, 167, 255, 199, 42, 42, 180, 0, 122, 181, 0, 71, 3, 60, 27]
abbrev dktX10_town_5 : List UInt8 := dkwX10_town_5 ++ dktX10_town_6
def dkwX10_town_4 : List UInt8 := [180, 0, 20, 27, 42, 180, 0, 44, 6, 27, 104, 4, 96, 46, 79, 42, 180, 0, 23, 27, 42, 180, 0, 44]
abbrev dktX10_town_4 : List UInt8 := dkwX10_town_4 ++ dktX10_town_5
def dkwX10_town_3 : List UInt8 := [60, 27, 42, 180, 0, 63, 162, 0, 55, 42, 180, 0, 17, 27, 42, 180, 0, 44, 6, 27, 104, 46, 79, 42]
abbrev dktX10_town_3 : List UInt8 := dkwX10_town_3 ++ dktX10_town_4
def dkwX10_town_2 : List UInt8 := [42, 180, 0, 84, 155, 0, 11, 16, 246, 42, 180, 0, 84, 100, 172, 42, 42, 180, 0, 113, 181, 0, 63, 3]
abbrev dktX10_town_2 : List UInt8 := dkwX10_town_2 ++ dktX10_town_3
def dkwX10_town_1 : List UInt8 := [181, 0, 127, 42, 180, 0, 84, 156, 0, 17, 42, 182, 0, 87, 154, 0, 10, 42, 182, 0, 130, 167, 255, 238]
abbrev dktX10_town_1 : List UInt8 := dkwX10_town_1 ++ dktX10_town_2
def dkwX10_town_0 : List UInt8 := [42, 3, 181, 0, 81, 42, 16, 247, 181, 0, 84, 42, 3, 181, 0, 113, 42, 3, 181, 0, 122, 42, 3]
abbrev dktX10_town_0 : List UInt8 := dkwX10_town_0 ++ dktX10_town_1
theorem dksX10_town_0 : cX10_town.data.toList.drop 0 = dktX10_town_0 := by decide +kernel
theorem dksX10_town_1 : cX10_town.data.toList.drop 23 = dktX10_town_1 := dk_seg dksX10_town_0 23 rfl rfl
theorem dksX10_town_2 : cX10_town.data.toList.drop 47 = dktX10_town_2 := dk_seg dksX10_town_1 24 rfl rfl
theorem dksX10_town_3 : cX10_town.data.toList.drop 71 = dktX10_town_3 := dk_seg dksX10_town_2 24 rfl rfl
theorem dksX10_town_4 : cX10_town.data.toList.drop 95 = dktX10_town_4 := dk_seg dksX10_town_3 24 rfl rfl
theorem dksX10_town_5 : cX10_town.data.toList.drop 119 = dktX10_town_5 := dk_seg dksX10_town_4 24 rfl rfl
theorem dksX10_town_6 : cX10_town.data.toList.drop 143 = dktX10_town_6 := dk_seg dksX10_town_5 24 rfl rfl
theorem dksX10_town_7 : cX10_town.data.toList.drop 167 = dktX10_town_7 := dk_seg dksX10_town_6 24 rfl rfl
theorem dksX10_town_8 : cX10_town.data.toList.drop 191 = dktX10_town_8 := dk_seg dksX10_town_7 24 rfl rfl
theorem dksX10_town_9 : cX10_town.data.toList.drop 213 = dktX10_town_9 := dk_seg dksX10_town_8 22 rfl rfl
theorem dksX10_town_10 : cX10_town.data.toList.drop 237 = dktX10_town_10 := dk_seg dksX10_town_9 24 rfl rfl
theorem dksX10_town_11 : cX10_town.data.toList.drop 261 = dktX10_town_11 := dk_seg dksX10_town_10 24 rfl rfl
theorem dX10_town_0 : decode cX10_town 0 = .ok (.aload_n 0, 1) := dk_42 (dk_at dksX10_town_0 0 rfl rfl)
theorem dX10_town_1 : decode cX10_town 1 = .ok (.iconst 0, 1) := dk_3 (dk_at dksX10_town_0 1 rfl rfl)
theorem dX10_town_2 : decode cX10_town 2 = .ok (.putfield 81, 3) := dk_181 0 81 (dk_at dksX10_town_0 2 rfl rfl)
theorem dX10_town_5 : decode cX10_town 5 = .ok (.aload_n 0, 1) := dk_42 (dk_at dksX10_town_0 5 rfl rfl)
theorem dX10_town_6 : decode cX10_town 6 = .ok (.bipush (-9), 2) := dk_16 247 (dk_at dksX10_town_0 6 rfl rfl)
theorem dX10_town_8 : decode cX10_town 8 = .ok (.putfield 84, 3) := dk_181 0 84 (dk_at dksX10_town_0 8 rfl rfl)
theorem dX10_town_11 : decode cX10_town 11 = .ok (.aload_n 0, 1) := dk_42 (dk_at dksX10_town_0 11 rfl rfl)
theorem dX10_town_12 : decode cX10_town 12 = .ok (.iconst 0, 1) := dk_3 (dk_at dksX10_town_0 12 rfl rfl)
theorem dX10_town_13 : decode cX10_town 13 = .ok (.putfield 113, 3) := dk_181 0 113 (dk_at dksX10_town_0 13 rfl rfl)
theorem dX10_town_16 : decode cX10_town 16 = .ok (.aload_n 0, 1) := dk_42 (dk_at dksX10_town_0 16 rfl rfl)
theorem dX10_town_17 : decode cX10_town 17 = .ok (.iconst 0, 1) := dk_3 (dk_at dksX10_town_0 17 rfl rfl)
theorem dX10_town_18 : decode cX10_town 18 = .ok (.putfield 122, 3) := dk_181 0 122 (dk_at dksX10_town_0 18 rfl rfl)
theorem dX10_town_21 : decode cX10_town 21 = .ok (.aload_n 0, 1) := dk_42 (dk_at dksX10_town_0 21 rfl rfl)
theorem dX10_town_22 : decode cX10_town 22 = .ok (.iconst 0, 1) := dk_3 (dk_at dksX10_town_0 22 rfl rfl)
theorem dX10_town_23 : decode cX10_town 23 = .ok (.putfield 127, 3) := dk_181 0 127 (dk_at dksX10_town_1 0 rfl rfl)
theorem dX10_town_26 : decode cX10_town 26 = .ok (.aload_n 0, 1) := dk_42 (dk_at dksX10_town_1 3 rfl rfl)
theorem dX10_town_27 : decode cX10_town 27 = .ok (.getfield 84, 3) := dk_180 0 84 (dk_at dksX10_town_1 4 rfl rfl)
theorem dX10_town_30 : decode cX10_town 30 = .ok (.ifCond .ge 17, 3) := dk_156 0 17 (dk_at dksX10_town_1 7 rfl rfl)
theorem dX10_town_33 : decode cX10_town 33 = .ok (.aload_n 0, 1) := dk_42 (dk_at dksX10_town_1 10 rfl rfl)
theorem dX10_town_34 : decode cX10_town 34 = .ok (.invokevirtual 87, 3) := dk_182 0 87 (dk_at dksX10_town_1 11 rfl rfl)
theorem dX10_town_37 : decode cX10_town 37 = .ok (.ifCond .ne 10, 3) := dk_154 0 10 (dk_at dksX10_town_1 14 rfl rfl)
theorem dX10_town_40 : decode cX10_town 40 = .ok (.aload_n 0, 1) := dk_42 (dk_at dksX10_town_1 17 rfl rfl)
theorem dX10_town_41 : decode cX10_town 41 = .ok (.invokevirtual 130, 3) := dk_182 0 130 (dk_at dksX10_town_1 18 rfl rfl)
theorem dX10_town_44 : decode cX10_town 44 = .ok (.goto (-18), 3) := dk_167 255 238 (dk_at dksX10_town_1 21 rfl rfl)
theorem dX10_town_47 : decode cX10_town 47 = .ok (.aload_n 0, 1) := dk_42 (dk_at dksX10_town_2 0 rfl rfl)
theorem dX10_town_48 : decode cX10_town 48 = .ok (.getfield 84, 3) := dk_180 0 84 (dk_at dksX10_town_2 1 rfl rfl)
theorem dX10_town_51 : decode cX10_town 51 = .ok (.ifCond .lt 11, 3) := dk_155 0 11 (dk_at dksX10_town_2 4 rfl rfl)
theorem dX10_town_54 : decode cX10_town 54 = .ok (.bipush (-10), 2) := dk_16 246 (dk_at dksX10_town_2 7 rfl rfl)
theorem dX10_town_56 : decode cX10_town 56 = .ok (.aload_n 0, 1) := dk_42 (dk_at dksX10_town_2 9 rfl rfl)
theorem dX10_town_57 : decode cX10_town 57 = .ok (.getfield 84, 3) := dk_180 0 84 (dk_at dksX10_town_2 10 rfl rfl)
theorem dX10_town_60 : decode cX10_town 60 = .ok (.isub, 1) := dk_100 (dk_at dksX10_town_2 13 rfl rfl)
theorem dX10_town_61 : decode cX10_town 61 = .ok (.ireturn, 1) := dk_172 (dk_at dksX10_town_2 14 rfl rfl)
theorem dX10_town_62 : decode cX10_town 62 = .ok (.aload_n 0, 1) := dk_42 (dk_at dksX10_town_2 15 rfl rfl)
theorem dX10_town_63 : decode cX10_town 63 = .ok (.aload_n 0, 1) := dk_42 (dk_at dksX10_town_2 16 rfl rfl)
theorem dX10_town_64 : decode cX10_town 64 = .ok (.getfield 113, 3) := dk_180 0 113 (dk_at dksX10_town_2 17 rfl rfl)
theorem dX10_town_67 : decode cX10_town 67 = .ok (.putfield 63, 3) := dk_181 0 63 (dk_at dksX10_town_2 20 rfl rfl)
theorem dX10_town_70 : decode cX10_town 70 = .ok (.iconst 0, 1) := dk_3 (dk_at dksX10_town_2 23 rfl rfl)
theorem dX10_town_71 : decode cX10_town 71 = .ok (.istore_n 1, 1) := dk_60 (dk_at dksX10_town_3 0 rfl rfl)
theorem dX10_town_72 : decode cX10_town 72 = .ok (.iload_n 1, 1) := dk_27 (dk_at dksX10_town_3 1 rfl rfl)
theorem dX10_town_73 : decode cX10_town 73 = .ok (.aload_n 0, 1) := dk_42 (dk_at dksX10_town_3 2 rfl rfl)
theorem dX10_town_74 : decode cX10_town 74 = .ok (.getfield 63, 3) := dk_180 0 63 (dk_at dksX10_town_3 3 rfl rfl)
theorem dX10_town_77 : decode cX10_town 77 = .ok (.if_icmp .ge 55, 3) := dk_162 0 55 (dk_at dksX10_town_3 6 rfl rfl)
theorem dX10_town_80 : decode cX10_town 80 = .ok (.aload_n 0, 1) := dk_42 (dk_at dksX10_town_3 9 rfl rfl)
theorem dX10_town_81 : decode cX10_town 81 = .ok (.getfield 17, 3) := dk_180 0 17 (dk_at dksX10_town_3 10 rfl rfl)
theorem dX10_town_84 : decode cX10_town 84 = .ok (.iload_n 1, 1) := dk_27 (dk_at dksX10_town_3 13 rfl rfl)
theorem dX10_town_85 : decode cX10_town 85 = .ok (.aload_n 0, 1) := dk_42 (dk_at dksX10_town_3 14 rfl rfl)
theorem dX10_town_86 : decode cX10_town 86 = .ok (.getfield 44, 3) := dk_180 0 44 (dk_at dksX10_town_3 15 rfl rfl)
theorem dX10_town_89 : decode cX10_town 89 = .ok (.iconst 3, 1) := dk_6 (dk_at dksX10_town_3 18 rfl rfl)
theorem dX10_town_90 : decode cX10_town 90 = .ok (.iload_n 1, 1) := dk_27 (dk_at dksX10_town_3 19 rfl rfl)
theorem dX10_town_91 : decode cX10_town 91 = .ok (.imul, 1) := dk_104 (dk_at dksX10_town_3 20 rfl rfl)
theorem dX10_town_92 : decode cX10_town 92 = .ok (.iaload, 1) := dk_46 (dk_at dksX10_town_3 21 rfl rfl)
theorem dX10_town_93 : decode cX10_town 93 = .ok (.iastore, 1) := dk_79 (dk_at dksX10_town_3 22 rfl rfl)
theorem dX10_town_94 : decode cX10_town 94 = .ok (.aload_n 0, 1) := dk_42 (dk_at dksX10_town_3 23 rfl rfl)
theorem dX10_town_95 : decode cX10_town 95 = .ok (.getfield 20, 3) := dk_180 0 20 (dk_at dksX10_town_4 0 rfl rfl)
theorem dX10_town_98 : decode cX10_town 98 = .ok (.iload_n 1, 1) := dk_27 (dk_at dksX10_town_4 3 rfl rfl)
theorem dX10_town_99 : decode cX10_town 99 = .ok (.aload_n 0, 1) := dk_42 (dk_at dksX10_town_4 4 rfl rfl)
theorem dX10_town_100 : decode cX10_town 100 = .ok (.getfield 44, 3) := dk_180 0 44 (dk_at dksX10_town_4 5 rfl rfl)
theorem dX10_town_103 : decode cX10_town 103 = .ok (.iconst 3, 1) := dk_6 (dk_at dksX10_town_4 8 rfl rfl)
theorem dX10_town_104 : decode cX10_town 104 = .ok (.iload_n 1, 1) := dk_27 (dk_at dksX10_town_4 9 rfl rfl)
theorem dX10_town_105 : decode cX10_town 105 = .ok (.imul, 1) := dk_104 (dk_at dksX10_town_4 10 rfl rfl)
theorem dX10_town_106 : decode cX10_town 106 = .ok (.iconst 1, 1) := dk_4 (dk_at dksX10_town_4 11 rfl rfl)
theorem dX10_town_107 : decode cX10_town 107 = .ok (.iadd, 1) := dk_96 (dk_at dksX10_town_4 12 rfl rfl)
theorem dX10_town_108 : decode cX10_town 108 = .ok (.iaload, 1) := dk_46 (dk_at dksX10_town_4 13 rfl rfl)
theorem dX10_town_109 : decode cX10_town 109 = .ok (.iastore, 1) := dk_79 (dk_at dksX10_town_4 14 rfl rfl)
theorem dX10_town_110 : decode cX10_town 110 = .ok (.aload_n 0, 1) := dk_42 (dk_at dksX10_town_4 15 rfl rfl)
theorem dX10_town_111 : decode cX10_town 111 = .ok (.getfield 23, 3) := dk_180 0 23 (dk_at dksX10_town_4 16 rfl rfl)
theorem dX10_town_114 : decode cX10_town 114 = .ok (.iload_n 1, 1) := dk_27 (dk_at dksX10_town_4 19 rfl rfl)
theorem dX10_town_115 : decode cX10_town 115 = .ok (.aload_n 0, 1) := dk_42 (dk_at dksX10_town_4 20 rfl rfl)
theorem dX10_town_116 : decode cX10_town 116 = .ok (.getfield 44, 3) := dk_180 0 44 (dk_at dksX10_town_4 21 rfl rfl)
theorem dX10_town_119 : decode cX10_town 119 = .ok (.iconst 3, 1) := dk_6 (dk_at dksX10_town_5 0 rfl rfl)
theorem dX10_town_120 : decode cX10_town 120 = .ok (.iload_n 1, 1) := dk_27 (dk_at dksX10_town_5 1 rfl rfl)
theorem dX10_town_121 : decode cX10_town 121 = .ok (.imul, 1) := dk_104 (dk_at dksX10_town_5 2 rfl rfl)
theorem dX10_town_122 : decode cX10_town 122 = .ok (.iconst 2, 1) := dk_5 (dk_at dksX10_town_5 3 rfl rfl)
theorem dX10_town_123 : decode cX10_town 123 = .ok (.iadd, 1) := dk_96 (dk_at dksX10_town_5 4 rfl rfl)
theorem dX10_town_124 : decode cX10_town 124 = .ok (.iaload, 1) := dk_46 (dk_at dksX10_town_5 5 rfl rfl)
theorem dX10_town_125 : decode cX10_town 125 = .ok (.iastore, 1) := dk_79 (dk_at dksX10_town_5 6 rfl rfl)
theorem dX10_town_126 : decode cX10_town 126 = .ok (.iinc 1 1, 3) := dk_132 1 1 (dk_at dksX10_town_5 7 rfl rfl)
theorem dX10_town_129 : decode cX10_town 129 = .ok (.goto (-57), 3) := dk_167 255 199 (dk_at dksX10_town_5 10 rfl rfl)
theorem dX10_town_132 : decode cX10_town 132 = .ok (.aload_n 0, 1) := dk_42 (dk_at dksX10_town_5 13 rfl rfl)
theorem dX10_town_133 : decode cX10_town 133 = .ok (.aload_n 0, 1) := dk_42 (dk_at dksX10_town_5 14 rfl rfl)
theorem dX10_town_134 : decode cX10_town 134 = .ok (.getfield 122, 3) := dk_180 0 122 (dk_at dksX10_town_5 15 rfl rfl)
theorem dX10_town_137 : decode cX10_town 137 = .ok (.putfield 71, 3) := dk_181 0 71 (dk_at dksX10_town_5 18 rfl rfl)
theorem dX10_town_140 : decode cX10_town 140 = .ok (.iconst 0, 1) := dk_3 (dk_at dksX10_town_5 21 rfl rfl)
theorem dX10_town_141 : decode cX10_town 141 = .ok (.istore_n 1, 1) := dk_60 (dk_at dksX10_town_5 22 rfl rfl)
theorem dX10_town_142 : decode cX10_town 142 = .ok (.iload_n 1, 1) := dk_27 (dk_at dksX10_town_5 23 rfl rfl)
theorem dX10_town_143 : decode cX10_town 143 = .ok (.iconst 5, 1) := dk_8 (dk_at dksX10_town_6 0 rfl rfl)
theorem dX10_town_144 : decode cX10_town 144 = .ok (.aload_n 0, 1) := dk_42 (dk_at dksX10_town_6 1 rfl rfl)
theorem dX10_town_145 : decode cX10_town 145 = .ok (.getfield 71, 3) := dk_180 0 71 (dk_at dksX10_town_6 2 rfl rfl)
theorem dX10_town_148 : decode cX10_town 148 = .ok (.imul, 1) := dk_104 (dk_at dksX10_town_6 5 rfl rfl)
theorem dX10_town_149 : decode cX10_town 149 = .ok (.if_icmp .ge 21, 3) := dk_162 0 21 (dk_at dksX10_town_6 6 rfl rfl)
theorem dX10_town_152 : decode cX10_town 152 = .ok (.aload_n 0, 1) := dk_42 (dk_at dksX10_town_6 9 rfl rfl)
theorem dX10_town_153 : decode cX10_town 153 = .ok (.getfield 26, 3) := dk_180 0 26 (dk_at dksX10_town_6 10 rfl rfl)
theorem dX10_town_156 : decode cX10_town 156 = .ok (.iload_n 1, 1) := dk_27 (dk_at dksX10_town_6 13 rfl rfl)
theorem dX10_town_157 : decode cX10_town 157 = .ok (.aload_n 0, 1) := dk_42 (dk_at dksX10_town_6 14 rfl rfl)
theorem dX10_town_158 : decode cX10_town 158 = .ok (.getfield 47, 3) := dk_180 0 47 (dk_at dksX10_town_6 15 rfl rfl)
theorem dX10_town_161 : decode cX10_town 161 = .ok (.iload_n 1, 1) := dk_27 (dk_at dksX10_town_6 18 rfl rfl)
theorem dX10_town_162 : decode cX10_town 162 = .ok (.iaload, 1) := dk_46 (dk_at dksX10_town_6 19 rfl rfl)
theorem dX10_town_163 : decode cX10_town 163 = .ok (.iastore, 1) := dk_79 (dk_at dksX10_town_6 20 rfl rfl)
theorem dX10_town_164 : decode cX10_town 164 = .ok (.iinc 1 1, 3) := dk_132 1 1 (dk_at dksX10_town_6 21 rfl rfl)
theorem dX10_town_167 : decode cX10_town 167 = .ok (.goto (-25), 3) := dk_167 255 231 (dk_at dksX10_town_7 0 rfl rfl)
theorem dX10_town_170 : decode cX10_town 170 = .ok (.aload_n 0, 1) := dk_42 (dk_at dksX10_town_7 3 rfl rfl)
theorem dX10_town_171 : decode cX10_town 171 = .ok (.aload_n 0, 1) := dk_42 (dk_at dksX10_town_7 4 rfl rfl)
theorem dX10_town_172 : decode cX10_town 172 = .ok (.getfield 127, 3) := dk_180 0 127 (dk_at dksX10_town_7 5 rfl rfl)
theorem dX10_town_175 : decode cX10_town 175 = .ok (.putfield 133, 3) := dk_181 0 133 (dk_at dksX10_town_7 8 rfl rfl)
theorem dX10_town_178 : decode cX10_town 178 = .ok (.iconst 0, 1) := dk_3 (dk_at dksX10_town_7 11 rfl rfl)
theorem dX10_town_179 : decode cX10_town 179 = .ok (.istore_n 1, 1) := dk_60 (dk_at dksX10_town_7 12 rfl rfl)
theorem dX10_town_180 : decode cX10_town 180 = .ok (.iload_n 1, 1) := dk_27 (dk_at dksX10_town_7 13 rfl rfl)
theorem dX10_town_181 : decode cX10_town 181 = .ok (.iconst 2, 1) := dk_5 (dk_at dksX10_town_7 14 rfl rfl)
theorem dX10_town_182 : decode cX10_town 182 = .ok (.aload_n 0, 1) := dk_42 (dk_at dksX10_town_7 15 rfl rfl)
theorem dX10_town_183 : decode cX10_town 183 = .ok (.getfield 133, 3) := dk_180 0 133 (dk_at dksX10_town_7 16 rfl rfl)
theorem dX10_town_186 : decode cX10_town 186 = .ok (.imul, 1) := dk_104 (dk_at dksX10_town_7 19 rfl rfl)
theorem dX10_town_187 : decode cX10_town 187 = .ok (.if_icmp .ge 21, 3) := dk_162 0 21 (dk_at dksX10_town_7 20 rfl rfl)
theorem dX10_town_190 : decode cX10_town 190 = .ok (.aload_n 0, 1) := dk_42 (dk_at dksX10_town_7 23 rfl rfl)
theorem dX10_town_191 : decode cX10_town 191 = .ok (.getfield 29, 3) := dk_180 0 29 (dk_at dksX10_town_8 0 rfl rfl)
theorem dX10_town_194 : decode cX10_town 194 = .ok (.iload_n 1, 1) := dk_27 (dk_at dksX10_town_8 3 rfl rfl)
theorem dX10_town_195 : decode cX10_town 195 = .ok (.aload_n 0, 1) := dk_42 (dk_at dksX10_town_8 4 rfl rfl)
theorem dX10_town_196 : decode cX10_town 196 = .ok (.getfield 50, 3) := dk_180 0 50 (dk_at dksX10_town_8 5 rfl rfl)
theorem dX10_town_199 : decode cX10_town 199 = .ok (.iload_n 1, 1) := dk_27 (dk_at dksX10_town_8 8 rfl rfl)
theorem dX10_town_200 : decode cX10_town 200 = .ok (.iaload, 1) := dk_46 (dk_at dksX10_town_8 9 rfl rfl)
theorem dX10_town_201 : decode cX10_town 201 = .ok (.iastore, 1) := dk_79 (dk_at dksX10_town_8 10 rfl rfl)
theorem dX10_town_202 : decode cX10_town 202 = .ok (.iinc 1 1, 3) := dk_132 1 1 (dk_at dksX10_town_8 11 rfl rfl)
theorem dX10_town_205 : decode cX10_town 205 = .ok (.goto (-25), 3) := dk_167 255 231 (dk_at dksX10_town_8 14 rfl rfl)
theorem dX10_town_208 : decode cX10_town 208 = .ok (.iconst 0, 1) := dk_3 (dk_at dksX10_town_8 17 rfl rfl)
theorem dX10_town_209 : decode cX10_town 209 = .ok (.istore_n 1, 1) := dk_60 (dk_at dksX10_town_8 18 rfl rfl)
theorem dX10_town_210 : decode cX10_town 210 = .ok (.iload_n 1, 1) := dk_27 (dk_at dksX10_town_8 19 rfl rfl)
theorem dX10_town_211 : decode cX10_town 211 = .ok (.bipush 100, 2) := dk_16 100 (dk_at dksX10_town_8 20 rfl rfl)
theorem dX10_town_213 : decode cX10_town 213 = .ok (.if_icmp .ge 16, 3) := dk_162 0 16 (dk_at dksX10_town_9 0 rfl rfl)
theorem dX10_town_216 : decode cX10_town 216 = .ok (.aload_n 0, 1) := dk_42 (dk_at dksX10_town_9 3 rfl rfl)
theorem dX10_town_217 : decode cX10_town 217 = .ok (.getfield 7, 3) := dk_180 0 7 (dk_at dksX10_town_9 4 rfl rfl)
theorem dX10_town_220 : decode cX10_town 220 = .ok (.iload_n 1, 1) := dk_27 (dk_at dksX10_town_9 7 rfl rfl)
theorem dX10_town_221 : decode cX10_town 221 = .ok (.iconst 0, 1) := dk_3 (dk_at dksX10_town_9 8 rfl rfl)
theorem dX10_town_222 : decode cX10_town 222 = .ok (.iastore, 1) := dk_79 (dk_at dksX10_town_9 9 rfl rfl)
theorem dX10_town_223 : decode cX10_town 223 = .ok (.iinc 1 1, 3) := dk_132 1 1 (dk_at dksX10_town_9 10 rfl rfl)
theorem dX10_town_226 : decode cX10_town 226 = .ok (.goto (-16), 3) := dk_167 255 240 (dk_at dksX10_town_9 13 rfl rfl)
theorem dX10_town_229 : decode cX10_town 229 = .ok (.aload_n 0, 1) := dk_42 (dk_at dksX10_town_9 16 rfl rfl)
theorem dX10_town_230 : decode cX10_town 230 = .ok (.getfield 13, 3) := dk_180 0 13 (dk_at dksX10_town_9 17 rfl rfl)
theorem dX10_town_233 : decode cX10_town 233 = .ok (.iconst 0, 1) := dk_3 (dk_at dksX10_town_9 20 rfl rfl)
theorem dX10_town_234 : decode cX10_town 234 = .ok (.iconst 0, 1) := dk_3 (dk_at dksX10_town_9 21 rfl rfl)
theorem dX10_town_235 : decode cX10_town 235 = .ok (.bastore, 1) := dk_84 (dk_at dksX10_town_9 22 rfl rfl)
theorem dX10_town_236 : decode cX10_town 236 = .ok (.aload_n 0, 1) := dk_42 (dk_at dksX10_town_9 23 rfl rfl)
theorem dX10_town_237 : decode cX10_town 237 = .ok (.getfield 13, 3) := dk_180 0 13 (dk_at dksX10_town_10 0 rfl rfl)
theorem dX10_town_240 : decode cX10_town 240 = .ok (.iconst 1, 1) := dk_4 (dk_at dksX10_town_10 3 rfl rfl)
theorem dX10_town_241 : decode cX10_town 241 = .ok (.iconst 0, 1) := dk_3 (dk_at dksX10_town_10 4 rfl rfl)
theorem dX10_town_242 : decode cX10_town 242 = .ok (.bastore, 1) := dk_84 (dk_at dksX10_town_10 5 rfl rfl)
theorem dX10_town_243 : decode cX10_town 243 = .ok (.aload_n 0, 1) := dk_42 (dk_at dksX10_town_10 6 rfl rfl)
theorem dX10_town_244 : decode cX10_town 244 = .ok (.iconst 0, 1) := dk_3 (dk_at dksX10_town_10 7 rfl rfl)
theorem dX10_town_245 : decode cX10_town 245 = .ok (.putfield 76, 3) := dk_181 0 76 (dk_at dksX10_town_10 8 rfl rfl)
theorem dX10_town_248 : decode cX10_town 248 = .ok (.aload_n 0, 1) := dk_42 (dk_at dksX10_town_10 11 rfl rfl)
theorem dX10_town_249 : decode cX10_town 249 = .ok (.getfield 63, 3) := dk_180 0 63 (dk_at dksX10_town_10 12 rfl rfl)
theorem dX10_town_252 : decode cX10_town 252 = .ok (.aload_n 0, 1) := dk_42 (dk_at dksX10_town_10 15 rfl rfl)
theorem dX10_town_253 : decode cX10_town 253 = .ok (.getfield 71, 3) := dk_180 0 71 (dk_at dksX10_town_10 16 rfl rfl)
theorem dX10_town_256 : decode cX10_town 256 = .ok (.iadd, 1) := dk_96 (dk_at dksX10_town_10 19 rfl rfl)
theorem dX10_town_257 : decode cX10_town 257 = .ok (.aload_n 0, 1) := dk_42 (dk_at dksX10_town_10 20 rfl rfl)
theorem dX10_town_258 : decode cX10_town 258 = .ok (.getfield 133, 3) := dk_180 0 133 (dk_at dksX10_town_10 21 rfl rfl)
theorem dX10_town_261 : decode cX10_town 261 = .ok (.iadd, 1) := dk_96 (dk_at dksX10_town_11 0 rfl rfl)
theorem dX10_town_262 : decode cX10_town 262 = .ok (.ireturn, 1) := dk_172 (dk_at dksX10_town_11 1 rfl rfl)
abbrev cX10_isEnd : ByteArray := prog_14_method_11_code
def yX10_isEnd : MethodName := ⟨RX10, "isEnd", "()Z"⟩
def dkwX10_isEnd_2 : List UInt8 := [160, 0, 7, 4, 167, 0, 4, 3, 172]
abbrev dktX10_isEnd_2 : List UInt8 := dkwX10_isEnd_2 ++ []
def dkwX10_isEnd_1 : List UInt8 := [160, 0, 16, 42, 89, 180, 0, 81, 4, 96, 181, 0, 81, 167, 255, 221, 42, 180, 0, 81, 42, 180, 0, 76]
abbrev dktX10_isEnd_1 : List UInt8 := dkwX10_isEnd_1 ++ dktX10_isEnd_2
def dkwX10_isEnd_0 : List UInt8 := [42, 180, 0, 81, 42, 180, 0, 76, 162, 0, 30, 42, 180, 0, 41, 42, 180, 0, 81, 46, 16, 32]
abbrev dktX10_isEnd_0 : List UInt8 := dkwX10_isEnd_0 ++ dktX10_isEnd_1
theorem dksX10_isEnd_0 : cX10_isEnd.data.toList.drop 0 = dktX10_isEnd_0 := by decide +kernel
theorem dksX10_isEnd_1 : cX10_isEnd.data.toList.drop 22 = dktX10_isEnd_1 := dk_seg dksX10_isEnd_0 22 rfl rfl
theorem dksX10_isEnd_2 : cX10_isEnd.data.toList.drop 46 = dktX10_isEnd_2 := dk_seg dksX10_isEnd_1 24 rfl rfl
theorem dX10_isEnd_0 : decode cX10_isEnd 0 = .ok (.aload_n 0, 1) := dk_42 (dk_at dksX10_isEnd_0 0 rfl rfl)
theorem dX10_isEnd_1 : decode cX10_isEnd 1 = .ok (.getfield 81, 3) := dk_180 0 81 (dk_at dksX10_isEnd_0 1 rfl rfl)
theorem dX10_isEnd_4 : decode cX10_isEnd 4 = .ok (.aload_n 0, 1) := dk_42 (dk_at dksX10_isEnd_0 4 rfl rfl)
theorem dX10_isEnd_5 : decode cX10_isEnd 5 = .ok (.getfield 76, 3) := dk_180 0 76 (dk_at dksX10_isEnd_0 5 rfl rfl)
theorem dX10_isEnd_8 : decode cX10_isEnd 8 = .ok (.if_icmp .ge 30, 3) := dk_162 0 30 (dk_at dksX10_isEnd_0 8 rfl rfl)
theorem dX10_isEnd_11 : decode cX10_isEnd 11 = .ok (.aload_n 0, 1) := dk_42 (dk_at dksX10_isEnd_0 11 rfl rfl)
theorem dX10_isEnd_12 : decode cX10_isEnd 12 = .ok (.getfield 41, 3) := dk_180 0 41 (dk_at dksX10_isEnd_0 12 rfl rfl)
theorem dX10_isEnd_15 : decode cX10_isEnd 15 = .ok (.aload_n 0, 1) := dk_42 (dk_at dksX10_isEnd_0 15 rfl rfl)
theorem dX10_isEnd_16 : decode cX10_isEnd 16 = .ok (.getfield 81, 3) := dk_180 0 81 (dk_at dksX10_isEnd_0 16 rfl rfl)
theorem dX10_isEnd_19 : decode cX10_isEnd 19 = .ok (.iaload, 1) := dk_46 (dk_at dksX10_isEnd_0 19 rfl rfl)
theorem dX10_isEnd_20 : decode cX10_isEnd 20 = .ok (.bipush 32, 2) := dk_16 32 (dk_at dksX10_isEnd_0 20 rfl rfl)
theorem dX10_isEnd_22 : decode cX10_isEnd 22 = .ok (.if_icmp .ne 16, 3) := dk_160 0 16 (dk_at dksX10_isEnd_1 0 rfl rfl)
theorem dX10_isEnd_25 : decode cX10_isEnd 25 = .ok (.aload_n 0, 1) := dk_42 (dk_at dksX10_isEnd_1 3 rfl rfl)
theorem dX10_isEnd_26 : decode cX10_isEnd 26 = .ok (.dup, 1) := dk_89 (dk_at dksX10_isEnd_1 4 rfl rfl)
theorem dX10_isEnd_27 : decode cX10_isEnd 27 = .ok (.getfield 81, 3) := dk_180 0 81 (dk_at dksX10_isEnd_1 5 rfl rfl)
theorem dX10_isEnd_30 : decode cX10_isEnd 30 = .ok (.iconst 1, 1) := dk_4 (dk_at dksX10_isEnd_1 8 rfl rfl)
theorem dX10_isEnd_31 : decode cX10_isEnd 31 = .ok (.iadd, 1) := dk_96 (dk_at dksX10_isEnd_1 9 rfl rfl)
theorem dX10_isEnd_32 : decode cX10_isEnd 32 = .ok (.putfield 81, 3) := dk_181 0 81 (dk_at dksX10_isEnd_1 10 rfl rfl)
theorem dX10_isEnd_35 : decode cX10_isEnd 35 = .ok (.goto (-35), 3) := dk_167 255 221 (dk_at dksX10_isEnd_1 13 rfl rfl)
theorem dX10_isEnd_38 : decode cX10_isEnd 38 = .ok (.aload_n 0, 1) := dk_42 (dk_at dksX10_isEnd_1 16 rfl rfl)
theorem dX10_isEnd_39 : decode cX10_isEnd 39 = .ok (.getfield 81, 3) := dk_180 0 81 (dk_at dksX10_isEnd_1 17 rfl rfl)
theorem dX10_isEnd_42 : decode cX10_isEnd 42 = .ok (.aload_n 0, 1) := dk_42 (dk_at dksX10_isEnd_1 20 rfl rfl)
theorem dX10_isEnd_43 : decode cX10_isEnd 43 = .ok (.getfield 76, 3) := dk_180 0 76 (dk_at dksX10_isEnd_1 21 rfl rfl)
theorem dX10_isEnd_46 : decode cX10_isEnd 46 = .ok (.if_icmp .ne 7, 3) := dk_160 0 7 (dk_at dksX10_isEnd_2 0 rfl rfl)
theorem dX10_isEnd_49 : decode cX10_isEnd 49 = .ok (.iconst 1, 1) := dk_4 (dk_at dksX10_isEnd_2 3 rfl rfl)
theorem dX10_isEnd_50 : decode cX10_isEnd 50 = .ok (.goto 4, 3) := dk_167 0 4 (dk_at dksX10_isEnd_2 4 rfl rfl)
theorem dX10_isEnd_53 : decode cX10_isEnd 53 = .ok (.iconst 0, 1) := dk_3 (dk_at dksX10_isEnd_2 7 rfl rfl)
theorem dX10_isEnd_54 : decode cX10_isEnd 54 = .ok (.ireturn, 1) := dk_172 (dk_at dksX10_isEnd_2 8 rfl rfl)
abbrev cX10_takeItem : ByteArray := prog_14_method_14_code
def yX10_takeItem : MethodName := ⟨RX10, "takeItem", "()V"⟩
def dkwX10_takeItem_15 : List UInt8 := [159, 0, 11, 42, 42, 180, 0, 81, 181, 0, 84, 42, 89, 180, 0, 81, 4, 96, 181, 0, 81, 177]
abbrev dktX10_takeItem_15 : List UInt8 := dkwX10_takeItem_15 ++ []
def dkwX10_takeItem_14 : List UInt8 := [180, 0, 84, 156, 0, 32, 42, 182, 0, 87, 154, 0, 17, 42, 180, 0, 41, 42, 180, 0, 81, 46, 16, 59]
abbrev dktX10_takeItem_14 : List UInt8 := dkwX10_takeItem_14 ++ dktX10_takeItem_15
def dkwX10_takeItem_13 : List UInt8 := [46, 182, 0, 116, 79, 42, 89, 180, 0, 127, 4, 96, 181, 0, 127, 167, 0, 8, 42, 27, 181, 0, 84, 42]
abbrev dktX10_takeItem_13 : List UInt8 := dkwX10_takeItem_13 ++ dktX10_takeItem_14
def dkwX10_takeItem_12 : List UInt8 := [180, 0, 127, 104, 4, 96, 42, 3, 42, 180, 0, 122, 4, 100, 42, 180, 0, 50, 5, 42, 180, 0, 127, 104]
abbrev dktX10_takeItem_12 : List UInt8 := dkwX10_takeItem_12 ++ dktX10_takeItem_13
def dkwX10_takeItem_11 : List UInt8 := [180, 0, 127, 104, 42, 3, 42, 180, 0, 122, 4, 100, 2, 182, 0, 116, 79, 42, 180, 0, 50, 5, 42]
abbrev dktX10_takeItem_11 : List UInt8 := dkwX10_takeItem_11 ++ dktX10_takeItem_12
def dkwX10_takeItem_10 : List UInt8 := [20, 0, 125, 148, 154, 0, 83, 42, 180, 0, 127, 16, 8, 162, 0, 74, 42, 180, 0, 50, 5, 42]
abbrev dktX10_takeItem_10 : List UInt8 := dkwX10_takeItem_10 ++ dktX10_takeItem_11
def dkwX10_takeItem_9 : List UInt8 := [4, 96, 46, 16, 9, 2, 182, 0, 116, 79, 42, 89, 180, 0, 122, 4, 96, 181, 0, 122, 167, 0, 96, 32]
abbrev dktX10_takeItem_9 : List UInt8 := dkwX10_takeItem_9 ++ dktX10_takeItem_10
def dkwX10_takeItem_8 : List UInt8 := [42, 4, 16, 99, 2, 182, 0, 116, 79, 42, 180, 0, 47, 21, 4, 7, 96, 42, 42, 180, 0, 47, 21, 4]
abbrev dktX10_takeItem_8 : List UInt8 := dkwX10_takeItem_8 ++ dktX10_takeItem_9
def dkwX10_takeItem_7 : List UInt8 := [180, 0, 47, 21, 4, 5, 96, 42, 4, 16, 9, 2, 182, 0, 116, 79, 42, 180, 0, 47, 21, 4, 6, 96]
abbrev dktX10_takeItem_7 : List UInt8 := dkwX10_takeItem_7 ++ dktX10_takeItem_8
def dkwX10_takeItem_6 : List UInt8 := [182, 0, 116, 79, 42, 180, 0, 47, 21, 4, 4, 96, 42, 3, 16, 9, 2, 182, 0, 116, 79, 42]
abbrev dktX10_takeItem_6 : List UInt8 := dkwX10_takeItem_6 ++ dktX10_takeItem_7
def dkwX10_takeItem_5 : List UInt8 := [42, 180, 0, 122, 104, 54, 4, 42, 180, 0, 47, 21, 4, 42, 3, 42, 180, 0, 113, 4, 100, 2]
abbrev dktX10_takeItem_5 : List UInt8 := dkwX10_takeItem_5 ++ dktX10_takeItem_6
def dkwX10_takeItem_4 : List UInt8 := [181, 0, 113, 167, 0, 229, 32, 20, 0, 120, 148, 154, 0, 128, 42, 180, 0, 122, 16, 8, 162, 0, 119, 8]
abbrev dktX10_takeItem_4 : List UInt8 := dkwX10_takeItem_4 ++ dktX10_takeItem_5
def dkwX10_takeItem_3 : List UInt8 := [42, 180, 0, 113, 104, 5, 96, 42, 3, 16, 9, 2, 182, 0, 116, 79, 42, 89, 180, 0, 113, 4, 96]
abbrev dktX10_takeItem_3 : List UInt8 := dkwX10_takeItem_3 ++ dktX10_takeItem_4
def dkwX10_takeItem_2 : List UInt8 := [180, 0, 44, 6, 42, 180, 0, 113, 104, 4, 96, 42, 4, 6, 2, 182, 0, 116, 79, 42, 180, 0, 44, 6]
abbrev dktX10_takeItem_2 : List UInt8 := dkwX10_takeItem_2 ++ dktX10_takeItem_3
def dkwX10_takeItem_1 : List UInt8 := [162, 0, 75, 42, 180, 0, 44, 6, 42, 180, 0, 113, 104, 42, 4, 8, 2, 182, 0, 116, 79, 42]
abbrev dktX10_takeItem_1 : List UInt8 := dkwX10_takeItem_1 ++ dktX10_takeItem_2
def dkwX10_takeItem_0 : List UInt8 := [42, 180, 0, 81, 60, 42, 182, 0, 107, 65, 32, 20, 0, 111, 148, 154, 0, 83, 42, 180, 0, 113, 7]
abbrev dktX10_takeItem_0 : List UInt8 := dkwX10_takeItem_0 ++ dktX10_takeItem_1
theorem dksX10_takeItem_0 : cX10_takeItem.data.toList.drop 0 = dktX10_takeItem_0 := by decide +kernel
theorem dksX10_takeItem_1 : cX10_takeItem.data.toList.drop 23 = dktX10_takeItem_1 := dk_seg dksX10_takeItem_0 23 rfl rfl
theorem dksX10_takeItem_2 : cX10_takeItem.data.toList.drop 45 = dktX10_takeItem_2 := dk_seg dksX10_takeItem_1 22 rfl rfl
theorem dksX10_takeItem_3 : cX10_takeItem.data.toList.drop 69 = dktX10_takeItem_3 := dk_seg dksX10_takeItem_2 24 rfl rfl
theorem dksX10_takeItem_4 : cX10_takeItem.data.toList.drop 92 = dktX10_takeItem_4 := dk_seg dksX10_takeItem_3 23 rfl rfl
theorem dksX10_takeItem_5 : cX10_takeItem.data.toList.drop 116 = dktX10_takeItem_5 := dk_seg dksX10_takeItem_4 24 rfl rfl
theorem dksX10_takeItem_6 : cX10_takeItem.data.toList.drop 138 = dktX10_takeItem_6 := dk_seg dksX10_takeItem_5 22 rfl rfl
theorem dksX10_takeItem_7 : cX10_takeItem.data.toList.drop 160 = dktX10_takeItem_7 := dk_seg dksX10_takeItem_6 22 rfl rfl
theorem dksX10_takeItem_8 : cX10_takeItem.data.toList.drop 184 = dktX10_takeItem_8 := dk_seg dksX10_takeItem_7 24 rfl rfl
theorem dksX10_takeItem_9 : cX10_takeItem.data.toList.drop 208 = dktX10_takeItem_9 := dk_seg dksX10_takeItem_8 24 rfl rfl
theorem dksX10_takeItem_10 : cX10_takeItem.data.toList.drop 232 = dktX10_takeItem_10 := dk_seg dksX10_takeItem_9 24 rfl rfl
theorem dksX10_takeItem_11 : cX10_takeItem.data.toList.drop 254 = dktX10_takeItem_11 := dk_seg dksX10_takeItem_10 22 rfl rfl
theorem dksX10_takeItem_12 : cX10_takeItem.data.toList.drop 277 = dktX10_takeItem_12 := dk_seg dksX10_takeItem_11 23 rfl rfl
theorem dksX10_takeItem_13 : cX10_takeItem.data.toList.drop 301 = dktX10_takeItem_13 := dk_seg dksX10_takeItem_12 24 rfl rfl
theorem dksX10_takeItem_14 : cX10_takeItem.data.toList.drop 325 = dktX10_takeItem_14 := dk_seg dksX10_takeItem_13 24 rfl rfl
theorem dksX10_takeItem_15 : cX10_takeItem.data.toList.drop 349 = dktX10_takeItem_15 := dk_seg dksX10_takeItem_14 24 rfl rfl
theorem dX10_takeItem_0 : decode cX10_takeItem 0 = .ok (.aload_n 0, 1) := dk_42 (dk_at dksX10_takeItem_0 0 rfl rfl)
theorem dX10_takeItem_1 : decode cX10_takeItem 1 = .ok (.getfield 81, 3) := dk_180 0 81 (dk_at dksX10_takeItem_0 1 rfl rfl)
theorem dX10_takeItem_4 : decode cX10_takeItem 4 = .ok (.istore_n 1, 1) := dk_60 (dk_at dksX10_takeItem_0 4 rfl rfl)
theorem dX10_takeItem_5 : decode cX10_takeItem 5 = .ok (.aload_n 0, 1) := dk_42 (dk_at dksX10_takeItem_0 5 rfl rfl)
theorem dX10_takeItem_6 : decode cX10_takeItem 6 = .ok (.invokevirtual 107, 3) := dk_182 0 107 (dk_at dksX10_takeItem_0 6 rfl rfl)
theorem dX10_takeItem_9 : decode cX10_takeItem 9 = .ok (.lstore_n 2, 1) := dk_65 (dk_at dksX10_takeItem_0 9 rfl rfl)
theorem dX10_takeItem_10 : decode cX10_takeItem 10 = .ok (.lload_n 2, 1) := dk_32 (dk_at dksX10_takeItem_0 10 rfl rfl)
theorem dX10_takeItem_11 : decode cX10_takeItem 11 = .ok (.ldc2_w 111, 3) := dk_20 0 111 (dk_at dksX10_takeItem_0 11 rfl rfl)
theorem dX10_takeItem_14 : decode cX10_takeItem 14 = .ok (.lcmp, 1) := dk_148 (dk_at dksX10_takeItem_0 14 rfl rfl)
theorem dX10_takeItem_15 : decode cX10_takeItem 15 = .ok (.ifCond .ne 83, 3) := dk_154 0 83 (dk_at dksX10_takeItem_0 15 rfl rfl)
theorem dX10_takeItem_18 : decode cX10_takeItem 18 = .ok (.aload_n 0, 1) := dk_42 (dk_at dksX10_takeItem_0 18 rfl rfl)
theorem dX10_takeItem_19 : decode cX10_takeItem 19 = .ok (.getfield 113, 3) := dk_180 0 113 (dk_at dksX10_takeItem_0 19 rfl rfl)
theorem dX10_takeItem_22 : decode cX10_takeItem 22 = .ok (.iconst 4, 1) := dk_7 (dk_at dksX10_takeItem_0 22 rfl rfl)
theorem dX10_takeItem_23 : decode cX10_takeItem 23 = .ok (.if_icmp .ge 75, 3) := dk_162 0 75 (dk_at dksX10_takeItem_1 0 rfl rfl)
theorem dX10_takeItem_26 : decode cX10_takeItem 26 = .ok (.aload_n 0, 1) := dk_42 (dk_at dksX10_takeItem_1 3 rfl rfl)
theorem dX10_takeItem_27 : decode cX10_takeItem 27 = .ok (.getfield 44, 3) := dk_180 0 44 (dk_at dksX10_takeItem_1 4 rfl rfl)
theorem dX10_takeItem_30 : decode cX10_takeItem 30 = .ok (.iconst 3, 1) := dk_6 (dk_at dksX10_takeItem_1 7 rfl rfl)
theorem dX10_takeItem_31 : decode cX10_takeItem 31 = .ok (.aload_n 0, 1) := dk_42 (dk_at dksX10_takeItem_1 8 rfl rfl)
theorem dX10_takeItem_32 : decode cX10_takeItem 32 = .ok (.getfield 113, 3) := dk_180 0 113 (dk_at dksX10_takeItem_1 9 rfl rfl)
theorem dX10_takeItem_35 : decode cX10_takeItem 35 = .ok (.imul, 1) := dk_104 (dk_at dksX10_takeItem_1 12 rfl rfl)
theorem dX10_takeItem_36 : decode cX10_takeItem 36 = .ok (.aload_n 0, 1) := dk_42 (dk_at dksX10_takeItem_1 13 rfl rfl)
theorem dX10_takeItem_37 : decode cX10_takeItem 37 = .ok (.iconst 1, 1) := dk_4 (dk_at dksX10_takeItem_1 14 rfl rfl)
theorem dX10_takeItem_38 : decode cX10_takeItem 38 = .ok (.iconst 5, 1) := dk_8 (dk_at dksX10_takeItem_1 15 rfl rfl)
theorem dX10_takeItem_39 : decode cX10_takeItem 39 = .ok (.iconst (-1), 1) := dk_2 (dk_at dksX10_takeItem_1 16 rfl rfl)
theorem dX10_takeItem_40 : decode cX10_takeItem 40 = .ok (.invokevirtual 116, 3) := dk_182 0 116 (dk_at dksX10_takeItem_1 17 rfl rfl)
theorem dX10_takeItem_43 : decode cX10_takeItem 43 = .ok (.iastore, 1) := dk_79 (dk_at dksX10_takeItem_1 20 rfl rfl)
theorem dX10_takeItem_44 : decode cX10_takeItem 44 = .ok (.aload_n 0, 1) := dk_42 (dk_at dksX10_takeItem_1 21 rfl rfl)
theorem dX10_takeItem_45 : decode cX10_takeItem 45 = .ok (.getfield 44, 3) := dk_180 0 44 (dk_at dksX10_takeItem_2 0 rfl rfl)
theorem dX10_takeItem_48 : decode cX10_takeItem 48 = .ok (.iconst 3, 1) := dk_6 (dk_at dksX10_takeItem_2 3 rfl rfl)
theorem dX10_takeItem_49 : decode cX10_takeItem 49 = .ok (.aload_n 0, 1) := dk_42 (dk_at dksX10_takeItem_2 4 rfl rfl)
theorem dX10_takeItem_50 : decode cX10_takeItem 50 = .ok (.getfield 113, 3) := dk_180 0 113 (dk_at dksX10_takeItem_2 5 rfl rfl)
theorem dX10_takeItem_53 : decode cX10_takeItem 53 = .ok (.imul, 1) := dk_104 (dk_at dksX10_takeItem_2 8 rfl rfl)
theorem dX10_takeItem_54 : decode cX10_takeItem 54 = .ok (.iconst 1, 1) := dk_4 (dk_at dksX10_takeItem_2 9 rfl rfl)
theorem dX10_takeItem_55 : decode cX10_takeItem 55 = .ok (.iadd, 1) := dk_96 (dk_at dksX10_takeItem_2 10 rfl rfl)
theorem dX10_takeItem_56 : decode cX10_takeItem 56 = .ok (.aload_n 0, 1) := dk_42 (dk_at dksX10_takeItem_2 11 rfl rfl)
theorem dX10_takeItem_57 : decode cX10_takeItem 57 = .ok (.iconst 1, 1) := dk_4 (dk_at dksX10_takeItem_2 12 rfl rfl)
theorem dX10_takeItem_58 : decode cX10_takeItem 58 = .ok (.iconst 3, 1) := dk_6 (dk_at dksX10_takeItem_2 13 rfl rfl)
theorem dX10_takeItem_59 : decode cX10_takeItem 59 = .ok (.iconst (-1), 1) := dk_2 (dk_at dksX10_takeItem_2 14 rfl rfl)
theorem dX10_takeItem_60 : decode cX10_takeItem 60 = .ok (.invokevirtual 116, 3) := dk_182 0 116 (dk_at dksX10_takeItem_2 15 rfl rfl)
theorem dX10_takeItem_63 : decode cX10_takeItem 63 = .ok (.iastore, 1) := dk_79 (dk_at dksX10_takeItem_2 18 rfl rfl)
theorem dX10_takeItem_64 : decode cX10_takeItem 64 = .ok (.aload_n 0, 1) := dk_42 (dk_at dksX10_takeItem_2 19 rfl rfl)
theorem dX10_takeItem_65 : decode cX10_takeItem 65 = .ok (.getfield 44, 3) := dk_180 0 44 (dk_at dksX10_takeItem_2 20 rfl rfl)
theorem dX10_takeItem_68 : decode cX10_takeItem 68 = .ok (.iconst 3, 1) := dk_6 (dk_at dksX10_takeItem_2 23 rfl rfl)
theorem dX10_takeItem_69 : decode cX10_takeItem 69 = .ok (.aload_n 0, 1) := dk_42 (dk_at dksX10_takeItem_3 0 rfl rfl)
theorem dX10_takeItem_70 : decode cX10_takeItem 70 = .ok (.getfield 113, 3) := dk_180 0 113 (dk_at dksX10_takeItem_3 1 rfl rfl)
theorem dX10_takeItem_73 : decode cX10_takeItem 73 = .ok (.imul, 1) := dk_104 (dk_at dksX10_takeItem_3 4 rfl rfl)
theorem dX10_takeItem_74 : decode cX10_takeItem 74 = .ok (.iconst 2, 1) := dk_5 (dk_at dksX10_takeItem_3 5 rfl rfl)
theorem dX10_takeItem_75 : decode cX10_takeItem 75 = .ok (.iadd, 1) := dk_96 (dk_at dksX10_takeItem_3 6 rfl rfl)
theorem dX10_takeItem_76 : decode cX10_takeItem 76 = .ok (.aload_n 0, 1) := dk_42 (dk_at dksX10_takeItem_3 7 rfl rfl)
theorem dX10_takeItem_77 : decode cX10_takeItem 77 = .ok (.iconst 0, 1) := dk_3 (dk_at dksX10_takeItem_3 8 rfl rfl)
theorem dX10_takeItem_78 : decode cX10_takeItem 78 = .ok (.bipush 9, 2) := dk_16 9 (dk_at dksX10_takeItem_3 9 rfl rfl)
theorem dX10_takeItem_80 : decode cX10_takeItem 80 = .ok (.iconst (-1), 1) := dk_2 (dk_at dksX10_takeItem_3 11 rfl rfl)
theorem dX10_takeItem_81 : decode cX10_takeItem 81 = .ok (.invokevirtual 116, 3) := dk_182 0 116 (dk_at dksX10_takeItem_3 12 rfl rfl)
theorem dX10_takeItem_84 : decode cX10_takeItem 84 = .ok (.iastore, 1) := dk_79 (dk_at dksX10_takeItem_3 15 rfl rfl)
theorem dX10_takeItem_85 : decode cX10_takeItem 85 = .ok (.aload_n 0, 1) := dk_42 (dk_at dksX10_takeItem_3 16 rfl rfl)
theorem dX10_takeItem_86 : decode cX10_takeItem 86 = .ok (.dup, 1) := dk_89 (dk_at dksX10_takeItem_3 17 rfl rfl)
theorem dX10_takeItem_87 : decode cX10_takeItem 87 = .ok (.getfield 113, 3) := dk_180 0 113 (dk_at dksX10_takeItem_3 18 rfl rfl)
theorem dX10_takeItem_90 : decode cX10_takeItem 90 = .ok (.iconst 1, 1) := dk_4 (dk_at dksX10_takeItem_3 21 rfl rfl)
theorem dX10_takeItem_91 : decode cX10_takeItem 91 = .ok (.iadd, 1) := dk_96 (dk_at dksX10_takeItem_3 22 rfl rfl)
theorem dX10_takeItem_92 : decode cX10_takeItem 92 = .ok (.putfield 113, 3) := dk_181 0 113 (dk_at dksX10_takeItem_4 0 rfl rfl)
theorem dX10_takeItem_95 : decode cX10_takeItem 95 = .ok (.goto 229, 3) := dk_167 0 229 (dk_at dksX10_takeItem_4 3 rfl rfl)
theorem dX10_takeItem_98 : decode cX10_takeItem 98 = .ok (.lload_n 2, 1) := dk_32 (dk_at dksX10_takeItem_4 6 rfl rfl)
theorem dX10_takeItem_99 : decode cX10_takeItem 99 = .ok (.ldc2_w 120, 3) := dk_20 0 120 (dk_at dksX10_takeItem_4 7 rfl rfl)
theorem dX10_takeItem_102 : decode cX10_takeItem 102 = .ok (.lcmp, 1) := dk_148 (dk_at dksX10_takeItem_4 10 rfl rfl)
theorem dX10_takeItem_103 : decode cX10_takeItem 103 = .ok (.ifCond .ne 128, 3) := dk_154 0 128 (dk_at dksX10_takeItem_4 11 rfl rfl)
theorem dX10_takeItem_106 : decode cX10_takeItem 106 = .ok (.aload_n 0, 1) := dk_42 (dk_at dksX10_takeItem_4 14 rfl rfl)
theorem dX10_takeItem_107 : decode cX10_takeItem 107 = .ok (.getfield 122, 3) := dk_180 0 122 (dk_at dksX10_takeItem_4 15 rfl rfl)
theorem dX10_takeItem_110 : decode cX10_takeItem 110 = .ok (.bipush 8, 2) := dk_16 8 (dk_at dksX10_takeItem_4 18 rfl rfl)
theorem dX10_takeItem_112 : decode cX10_takeItem 112 = .ok (.if_icmp .ge 119, 3) := dk_162 0 119 (dk_at dksX10_takeItem_4 20 rfl rfl)
theorem dX10_takeItem_115 : decode cX10_takeItem 115 = .ok (.iconst 5, 1) := dk_8 (dk_at dksX10_takeItem_4 23 rfl rfl)
theorem dX10_takeItem_116 : decode cX10_takeItem 116 = .ok (.aload_n 0, 1) := dk_42 (dk_at dksX10_takeItem_5 0 rfl rfl)
theorem dX10_takeItem_117 : decode cX10_takeItem 117 = .ok (.getfield 122, 3) := dk_180 0 122 (dk_at dksX10_takeItem_5 1 rfl rfl)
theorem dX10_takeItem_120 : decode cX10_takeItem 120 = .ok (.imul, 1) := dk_104 (dk_at dksX10_takeItem_5 4 rfl rfl)
theorem dX10_takeItem_121 : decode cX10_takeItem 121 = .ok (.istore 4, 2) := dk_54 4 (dk_at dksX10_takeItem_5 5 rfl rfl)
theorem dX10_takeItem_123 : decode cX10_takeItem 123 = .ok (.aload_n 0, 1) := dk_42 (dk_at dksX10_takeItem_5 7 rfl rfl)
theorem dX10_takeItem_124 : decode cX10_takeItem 124 = .ok (.getfield 47, 3) := dk_180 0 47 (dk_at dksX10_takeItem_5 8 rfl rfl)
theorem dX10_takeItem_127 : decode cX10_takeItem 127 = .ok (.iload 4, 2) := dk_21 4 (dk_at dksX10_takeItem_5 11 rfl rfl)
theorem dX10_takeItem_129 : decode cX10_takeItem 129 = .ok (.aload_n 0, 1) := dk_42 (dk_at dksX10_takeItem_5 13 rfl rfl)
theorem dX10_takeItem_130 : decode cX10_takeItem 130 = .ok (.iconst 0, 1) := dk_3 (dk_at dksX10_takeItem_5 14 rfl rfl)
theorem dX10_takeItem_131 : decode cX10_takeItem 131 = .ok (.aload_n 0, 1) := dk_42 (dk_at dksX10_takeItem_5 15 rfl rfl)
theorem dX10_takeItem_132 : decode cX10_takeItem 132 = .ok (.getfield 113, 3) := dk_180 0 113 (dk_at dksX10_takeItem_5 16 rfl rfl)
theorem dX10_takeItem_135 : decode cX10_takeItem 135 = .ok (.iconst 1, 1) := dk_4 (dk_at dksX10_takeItem_5 19 rfl rfl)
theorem dX10_takeItem_136 : decode cX10_takeItem 136 = .ok (.isub, 1) := dk_100 (dk_at dksX10_takeItem_5 20 rfl rfl)
theorem dX10_takeItem_137 : decode cX10_takeItem 137 = .ok (.iconst (-1), 1) := dk_2 (dk_at dksX10_takeItem_5 21 rfl rfl)
theorem dX10_takeItem_138 : decode cX10_takeItem 138 = .ok (.invokevirtual 116, 3) := dk_182 0 116 (dk_at dksX10_takeItem_6 0 rfl rfl)
theorem dX10_takeItem_141 : decode cX10_takeItem 141 = .ok (.iastore, 1) := dk_79 (dk_at dksX10_takeItem_6 3 rfl rfl)
theorem dX10_takeItem_142 : decode cX10_takeItem 142 = .ok (.aload_n 0, 1) := dk_42 (dk_at dksX10_takeItem_6 4 rfl rfl)
theorem dX10_takeItem_143 : decode cX10_takeItem 143 = .ok (.getfield 47, 3) := dk_180 0 47 (dk_at dksX10_takeItem_6 5 rfl rfl)
theorem dX10_takeItem_146 : decode cX10_takeItem 146 = .ok (.iload 4, 2) := dk_21 4 (dk_at dksX10_takeItem_6 8 rfl rfl)
theorem dX10_takeItem_148 : decode cX10_takeItem 148 = .ok (.iconst 1, 1) := dk_4 (dk_at dksX10_takeItem_6 10 rfl rfl)
theorem dX10_takeItem_149 : decode cX10_takeItem 149 = .ok (.iadd, 1) := dk_96 (dk_at dksX10_takeItem_6 11 rfl rfl)
theorem dX10_takeItem_150 : decode cX10_takeItem 150 = .ok (.aload_n 0, 1) := dk_42 (dk_at dksX10_takeItem_6 12 rfl rfl)
theorem dX10_takeItem_151 : decode cX10_takeItem 151 = .ok (.iconst 0, 1) := dk_3 (dk_at dksX10_takeItem_6 13 rfl rfl)
theorem dX10_takeItem_152 : decode cX10_takeItem 152 = .ok (.bipush 9, 2) := dk_16 9 (dk_at dksX10_takeItem_6 14 rfl rfl)
theorem dX10_takeItem_154 : decode cX10_takeItem 154 = .ok (.iconst (-1), 1) := dk_2 (dk_at dksX10_takeItem_6 16 rfl rfl)
theorem dX10_takeItem_155 : decode cX10_takeItem 155 = .ok (.invokevirtual 116, 3) := dk_182 0 116 (dk_at dksX10_takeItem_6 17 rfl rfl)
theorem dX10_takeItem_158 : decode cX10_takeItem 158 = .ok (.iastore, 1) := dk_79 (dk_at dksX10_takeItem_6 20 rfl rfl)
theorem dX10_takeItem_159 : decode cX10_takeItem 159 = .ok (.aload_n 0, 1) := dk_42 (dk_at dksX10_takeItem_6 21 rfl rfl)
theorem dX10_takeItem_160 : decode cX10_takeItem 160 = .ok (.getfield 47, 3) := dk_180 0 47 (dk_at dksX10_takeItem_7 0 rfl rfl)
theorem dX10_takeItem_163 : decode cX10_takeItem 163 = .ok (.iload 4, 2) := dk_21 4 (dk_at dksX10_takeItem_7 3 rfl rfl)
theorem dX10_takeItem_165 : decode cX10_takeItem 165 = .ok (.iconst 2, 1) := dk_5 (dk_at dksX10_takeItem_7 5 rfl rfl)
theorem dX10_takeItem_166 : decode cX10_takeItem 166 = .ok (.iadd, 1) := dk_96 (dk_at dksX10_takeItem_7 6 rfl rfl)
theorem dX10_takeItem_167 : decode cX10_takeItem 167 = .ok (.aload_n 0, 1) := dk_42 (dk_at dksX10_takeItem_7 7 rfl rfl)
theorem dX10_takeItem_168 : decode cX10_takeItem 168 = .ok (.iconst 1, 1) := dk_4 (dk_at dksX10_takeItem_7 8 rfl rfl)
theorem dX10_takeItem_169 : decode cX10_takeItem 169 = .ok (.bipush 9, 2) := dk_16 9 (dk_at dksX10_takeItem_7 9 rfl rfl)
theorem dX10_takeItem_171 : decode cX10_takeItem 171 = .ok (.iconst (-1), 1) := dk_2 (dk_at dksX10_takeItem_7 11 rfl rfl)
theorem dX10_takeItem_172 : decode cX10_takeItem 172 = .ok (.invokevirtual 116, 3) := dk_182 0 116 (dk_at dksX10_takeItem_7 12 rfl rfl)
theorem dX10_takeItem_175 : decode cX10_takeItem 175 = .ok (.iastore, 1) := dk_79 (dk_at dksX10_takeItem_7 15 rfl rfl)
theorem dX10_takeItem_176 : decode cX10_takeItem 176 = .ok (.aload_n 0, 1) := dk_42 (dk_at dksX10_takeItem_7 16 rfl rfl)
theorem dX10_takeItem_177 : decode cX10_takeItem 177 = .ok (.getfield 47, 3) := dk_180 0 47 (dk_at dksX10_takeItem_7 17 rfl rfl)
theorem dX10_takeItem_180 : decode cX10_takeItem 180 = .ok (.iload 4, 2) := dk_21 4 (dk_at dksX10_takeItem_7 20 rfl rfl)
theorem dX10_takeItem_182 : decode cX10_takeItem 182 = .ok (.iconst 3, 1) := dk_6 (dk_at dksX10_takeItem_7 22 rfl rfl)
theorem dX10_takeItem_183 : decode cX10_takeItem 183 = .ok (.iadd, 1) := dk_96 (dk_at dksX10_takeItem_7 23 rfl rfl)
theorem dX10_takeItem_184 : decode cX10_takeItem 184 = .ok (.aload_n 0, 1) := dk_42 (dk_at dksX10_takeItem_8 0 rfl rfl)
theorem dX10_takeItem_185 : decode cX10_takeItem 185 = .ok (.iconst 1, 1) := dk_4 (dk_at dksX10_takeItem_8 1 rfl rfl)
theorem dX10_takeItem_186 : decode cX10_takeItem 186 = .ok (.bipush 99, 2) := dk_16 99 (dk_at dksX10_takeItem_8 2 rfl rfl)
theorem dX10_takeItem_188 : decode cX10_takeItem 188 = .ok (.iconst (-1), 1) := dk_2 (dk_at dksX10_takeItem_8 4 rfl rfl)
theorem dX10_takeItem_189 : decode cX10_takeItem 189 = .ok (.invokevirtual 116, 3) := dk_182 0 116 (dk_at dksX10_takeItem_8 5 rfl rfl)
theorem dX10_takeItem_192 : decode cX10_takeItem 192 = .ok (.iastore, 1) := dk_79 (dk_at dksX10_takeItem_8 8 rfl rfl)
theorem dX10_takeItem_193 : decode cX10_takeItem 193 = .ok (.aload_n 0, 1) := dk_42 (dk_at dksX10_takeItem_8 9 rfl rfl)
theorem dX10_takeItem_194 : decode cX10_takeItem 194 = .ok (.getfield 47, 3) := dk_180 0 47 (dk_at dksX10_takeItem_8 10 rfl rfl)
theorem dX10_takeItem_197 : decode cX10_takeItem 197 = .ok (.iload 4, 2) := dk_21 4 (dk_at dksX10_takeItem_8 13 rfl rfl)
theorem dX10_takeItem_199 : decode cX10_takeItem 199 = .ok (.iconst 4, 1) := dk_7 (dk_at dksX10_takeItem_8 15 rfl rfl)
theorem dX10_takeItem_200 : decode cX10_takeItem 200 = .ok (.iadd, 1) := dk_96 (dk_at dksX10_takeItem_8 16 rfl rfl)
theorem dX10_takeItem_201 : decode cX10_takeItem 201 = .ok (.aload_n 0, 1) := dk_42 (dk_at dksX10_takeItem_8 17 rfl rfl)
theorem dX10_takeItem_202 : decode cX10_takeItem 202 = .ok (.aload_n 0, 1) := dk_42 (dk_at dksX10_takeItem_8 18 rfl rfl)
theorem dX10_takeItem_203 : decode cX10_takeItem 203 = .ok (.getfield 47, 3) := dk_180 0 47 (dk_at dksX10_takeItem_8 19 rfl rfl)
theorem dX10_takeItem_206 : decode cX10_takeItem 206 = .ok (.iload 4, 2) := dk_21 4 (dk_at dksX10_takeItem_8 22 rfl rfl)
theorem dX10_takeItem_208 : decode cX10_takeItem 208 = .ok (.iconst 1, 1) := dk_4 (dk_at dksX10_takeItem_9 0 rfl rfl)
theorem dX10_takeItem_209 : decode cX10_takeItem 209 = .ok (.iadd, 1) := dk_96 (dk_at dksX10_takeItem_9 1 rfl rfl)
theorem dX10_takeItem_210 : decode cX10_takeItem 210 = .ok (.iaload, 1) := dk_46 (dk_at dksX10_takeItem_9 2 rfl rfl)
theorem dX10_takeItem_211 : decode cX10_takeItem 211 = .ok (.bipush 9, 2) := dk_16 9 (dk_at dksX10_takeItem_9 3 rfl rfl)
theorem dX10_takeItem_213 : decode cX10_takeItem 213 = .ok (.iconst (-1), 1) := dk_2 (dk_at dksX10_takeItem_9 5 rfl rfl)
theorem dX10_takeItem_214 : decode cX10_takeItem 214 = .ok (.invokevirtual 116, 3) := dk_182 0 116 (dk_at dksX10_takeItem_9 6 rfl rfl)
theorem dX10_takeItem_217 : decode cX10_takeItem 217 = .ok (.iastore, 1) := dk_79 (dk_at dksX10_takeItem_9 9 rfl rfl)
theorem dX10_takeItem_218 : decode cX10_takeItem 218 = .ok (.aload_n 0, 1) := dk_42 (dk_at dksX10_takeItem_9 10 rfl rfl)
theorem dX10_takeItem_219 : decode cX10_takeItem 219 = .ok (.dup, 1) := dk_89 (dk_at dksX10_takeItem_9 11 rfl rfl)
theorem dX10_takeItem_220 : decode cX10_takeItem 220 = .ok (.getfield 122, 3) := dk_180 0 122 (dk_at dksX10_takeItem_9 12 rfl rfl)
theorem dX10_takeItem_223 : decode cX10_takeItem 223 = .ok (.iconst 1, 1) := dk_4 (dk_at dksX10_takeItem_9 15 rfl rfl)
theorem dX10_takeItem_224 : decode cX10_takeItem 224 = .ok (.iadd, 1) := dk_96 (dk_at dksX10_takeItem_9 16 rfl rfl)
theorem dX10_takeItem_225 : decode cX10_takeItem 225 = .ok (.putfield 122, 3) := dk_181 0 122 (dk_at dksX10_takeItem_9 17 rfl rfl)
theorem dX10_takeItem_228 : decode cX10_takeItem 228 = .ok (.goto 96, 3) := dk_167 0 96 (dk_at dksX10_takeItem_9 20 rfl rfl)
theorem dX10_takeItem_231 : decode cX10_takeItem 231 = .ok (.lload_n 2, 1) := dk_32 (dk_at dksX10_takeItem_9 23 rfl rfl)
theorem dX10_takeItem_232 : decode cX10_takeItem 232 = .ok (.ldc2_w 125, 3) := dk_20 0 125 (dk_at dksX10_takeItem_10 0 rfl rfl)
theorem dX10_takeItem_235 : decode cX10_takeItem 235 = .ok (.lcmp, 1) := dk_148 (dk_at dksX10_takeItem_10 3 rfl rfl)
theorem dX10_takeItem_236 : decode cX10_takeItem 236 = .ok (.ifCond .ne 83, 3) := dk_154 0 83 (dk_at dksX10_takeItem_10 4 rfl rfl)
theorem dX10_takeItem_239 : decode cX10_takeItem 239 = .ok (.aload_n 0, 1) := dk_42 (dk_at dksX10_takeItem_10 7 rfl rfl)
theorem dX10_takeItem_240 : decode cX10_takeItem 240 = .ok (.getfield 127, 3) := dk_180 0 127 (dk_at dksX10_takeItem_10 8 rfl rfl)
theorem dX10_takeItem_243 : decode cX10_takeItem 243 = .ok (.bipush 8, 2) := dk_16 8 (dk_at dksX10_takeItem_10 11 rfl rfl)
theorem dX10_takeItem_245 : decode cX10_takeItem 245 = .ok (.if_icmp .ge 74, 3) := dk_162 0 74 (dk_at dksX10_takeItem_10 13 rfl rfl)
theorem dX10_takeItem_248 : decode cX10_takeItem 248 = .ok (.aload_n 0, 1) := dk_42 (dk_at dksX10_takeItem_10 16 rfl rfl)
theorem dX10_takeItem_249 : decode cX10_takeItem 249 = .ok (.getfield 50, 3) := dk_180 0 50 (dk_at dksX10_takeItem_10 17 rfl rfl)
theorem dX10_takeItem_252 : decode cX10_takeItem 252 = .ok (.iconst 2, 1) := dk_5 (dk_at dksX10_takeItem_10 20 rfl rfl)
theorem dX10_takeItem_253 : decode cX10_takeItem 253 = .ok (.aload_n 0, 1) := dk_42 (dk_at dksX10_takeItem_10 21 rfl rfl)
theorem dX10_takeItem_254 : decode cX10_takeItem 254 = .ok (.getfield 127, 3) := dk_180 0 127 (dk_at dksX10_takeItem_11 0 rfl rfl)
theorem dX10_takeItem_257 : decode cX10_takeItem 257 = .ok (.imul, 1) := dk_104 (dk_at dksX10_takeItem_11 3 rfl rfl)
theorem dX10_takeItem_258 : decode cX10_takeItem 258 = .ok (.aload_n 0, 1) := dk_42 (dk_at dksX10_takeItem_11 4 rfl rfl)
theorem dX10_takeItem_259 : decode cX10_takeItem 259 = .ok (.iconst 0, 1) := dk_3 (dk_at dksX10_takeItem_11 5 rfl rfl)
theorem dX10_takeItem_260 : decode cX10_takeItem 260 = .ok (.aload_n 0, 1) := dk_42 (dk_at dksX10_takeItem_11 6 rfl rfl)
theorem dX10_takeItem_261 : decode cX10_takeItem 261 = .ok (.getfield 122, 3) := dk_180 0 122 (dk_at dksX10_takeItem_11 7 rfl rfl)
theorem dX10_takeItem_264 : decode cX10_takeItem 264 = .ok (.iconst 1, 1) := dk_4 (dk_at dksX10_takeItem_11 10 rfl rfl)
theorem dX10_takeItem_265 : decode cX10_takeItem 265 = .ok (.isub, 1) := dk_100 (dk_at dksX10_takeItem_11 11 rfl rfl)
theorem dX10_takeItem_266 : decode cX10_takeItem 266 = .ok (.iconst (-1), 1) := dk_2 (dk_at dksX10_takeItem_11 12 rfl rfl)
theorem dX10_takeItem_267 : decode cX10_takeItem 267 = .ok (.invokevirtual 116, 3) := dk_182 0 116 (dk_at dksX10_takeItem_11 13 rfl rfl)
theorem dX10_takeItem_270 : decode cX10_takeItem 270 = .ok (.iastore, 1) := dk_79 (dk_at dksX10_takeItem_11 16 rfl rfl)
theorem dX10_takeItem_271 : decode cX10_takeItem 271 = .ok (.aload_n 0, 1) := dk_42 (dk_at dksX10_takeItem_11 17 rfl rfl)
theorem dX10_takeItem_272 : decode cX10_takeItem 272 = .ok (.getfield 50, 3) := dk_180 0 50 (dk_at dksX10_takeItem_11 18 rfl rfl)
theorem dX10_takeItem_275 : decode cX10_takeItem 275 = .ok (.iconst 2, 1) := dk_5 (dk_at dksX10_takeItem_11 21 rfl rfl)
theorem dX10_takeItem_276 : decode cX10_takeItem 276 = .ok (.aload_n 0, 1) := dk_42 (dk_at dksX10_takeItem_11 22 rfl rfl)
theorem dX10_takeItem_277 : decode cX10_takeItem 277 = .ok (.getfield 127, 3) := dk_180 0 127 (dk_at dksX10_takeItem_12 0 rfl rfl)
theorem dX10_takeItem_280 : decode cX10_takeItem 280 = .ok (.imul, 1) := dk_104 (dk_at dksX10_takeItem_12 3 rfl rfl)
theorem dX10_takeItem_281 : decode cX10_takeItem 281 = .ok (.iconst 1, 1) := dk_4 (dk_at dksX10_takeItem_12 4 rfl rfl)
theorem dX10_takeItem_282 : decode cX10_takeItem 282 = .ok (.iadd, 1) := dk_96 (dk_at dksX10_takeItem_12 5 rfl rfl)
theorem dX10_takeItem_283 : decode cX10_takeItem 283 = .ok (.aload_n 0, 1) := dk_42 (dk_at dksX10_takeItem_12 6 rfl rfl)
theorem dX10_takeItem_284 : decode cX10_takeItem 284 = .ok (.iconst 0, 1) := dk_3 (dk_at dksX10_takeItem_12 7 rfl rfl)
theorem dX10_takeItem_285 : decode cX10_takeItem 285 = .ok (.aload_n 0, 1) := dk_42 (dk_at dksX10_takeItem_12 8 rfl rfl)
theorem dX10_takeItem_286 : decode cX10_takeItem 286 = .ok (.getfield 122, 3) := dk_180 0 122 (dk_at dksX10_takeItem_12 9 rfl rfl)
theorem dX10_takeItem_289 : decode cX10_takeItem 289 = .ok (.iconst 1, 1) := dk_4 (dk_at dksX10_takeItem_12 12 rfl rfl)
theorem dX10_takeItem_290 : decode cX10_takeItem 290 = .ok (.isub, 1) := dk_100 (dk_at dksX10_takeItem_12 13 rfl rfl)
theorem dX10_takeItem_291 : decode cX10_takeItem 291 = .ok (.aload_n 0, 1) := dk_42 (dk_at dksX10_takeItem_12 14 rfl rfl)
theorem dX10_takeItem_292 : decode cX10_takeItem 292 = .ok (.getfield 50, 3) := dk_180 0 50 (dk_at dksX10_takeItem_12 15 rfl rfl)
theorem dX10_takeItem_295 : decode cX10_takeItem 295 = .ok (.iconst 2, 1) := dk_5 (dk_at dksX10_takeItem_12 18 rfl rfl)
theorem dX10_takeItem_296 : decode cX10_takeItem 296 = .ok (.aload_n 0, 1) := dk_42 (dk_at dksX10_takeItem_12 19 rfl rfl)
theorem dX10_takeItem_297 : decode cX10_takeItem 297 = .ok (.getfield 127, 3) := dk_180 0 127 (dk_at dksX10_takeItem_12 20 rfl rfl)
theorem dX10_takeItem_300 : decode cX10_takeItem 300 = .ok (.imul, 1) := dk_104 (dk_at dksX10_takeItem_12 23 rfl rfl)
theorem dX10_takeItem_301 : decode cX10_takeItem 301 = .ok (.iaload, 1) := dk_46 (dk_at dksX10_takeItem_13 0 rfl rfl)
theorem dX10_takeItem_302 : decode cX10_takeItem 302 = .ok (.invokevirtual 116, 3) := dk_182 0 116 (dk_at dksX10_takeItem_13 1 rfl rfl)
theorem dX10_takeItem_305 : decode cX10_takeItem 305 = .ok (.iastore, 1) := dk_79 (dk_at dksX10_takeItem_13 4 rfl rfl)
theorem dX10_takeItem_306 : decode cX10_takeItem 306 = .ok (.aload_n 0, 1) := dk_42 (dk_at dksX10_takeItem_13 5 rfl rfl)
theorem dX10_takeItem_307 : decode cX10_takeItem 307 = .ok (.dup, 1) := dk_89 (dk_at dksX10_takeItem_13 6 rfl rfl)
theorem dX10_takeItem_308 : decode cX10_takeItem 308 = .ok (.getfield 127, 3) := dk_180 0 127 (dk_at dksX10_takeItem_13 7 rfl rfl)
theorem dX10_takeItem_311 : decode cX10_takeItem 311 = .ok (.iconst 1, 1) := dk_4 (dk_at dksX10_takeItem_13 10 rfl rfl)
theorem dX10_takeItem_312 : decode cX10_takeItem 312 = .ok (.iadd, 1) := dk_96 (dk_at dksX10_takeItem_13 11 rfl rfl)
theorem dX10_takeItem_313 : decode cX10_takeItem 313 = .ok (.putfield 127, 3) := dk_181 0 127 (dk_at dksX10_takeItem_13 12 rfl rfl)
theorem dX10_takeItem_316 : decode cX10_takeItem 316 = .ok (.goto 8, 3) := dk_167 0 8 (dk_at dksX10_takeItem_13 15 rfl rfl)
theorem dX10_takeItem_319 : decode cX10_takeItem 319 = .ok (.aload_n 0, 1) := dk_42 (dk_at dksX10_takeItem_13 18 rfl rfl)
theorem dX10_takeItem_320 : decode cX10_takeItem 320 = .ok (.iload_n 1, 1) := dk_27 (dk_at dksX10_takeItem_13 19 rfl rfl)
theorem dX10_takeItem_321 : decode cX10_takeItem 321 = .ok (.putfield 84, 3) := dk_181 0 84 (dk_at dksX10_takeItem_13 20 rfl rfl)
theorem dX10_takeItem_324 : decode cX10_takeItem 324 = .ok (.aload_n 0, 1) := dk_42 (dk_at dksX10_takeItem_13 23 rfl rfl)
theorem dX10_takeItem_325 : decode cX10_takeItem 325 = .ok (.getfield 84, 3) := dk_180 0 84 (dk_at dksX10_takeItem_14 0 rfl rfl)
theorem dX10_takeItem_328 : decode cX10_takeItem 328 = .ok (.ifCond .ge 32, 3) := dk_156 0 32 (dk_at dksX10_takeItem_14 3 rfl rfl)
theorem dX10_takeItem_331 : decode cX10_takeItem 331 = .ok (.aload_n 0, 1) := dk_42 (dk_at dksX10_takeItem_14 6 rfl rfl)
theorem dX10_takeItem_332 : decode cX10_takeItem 332 = .ok (.invokevirtual 87, 3) := dk_182 0 87 (dk_at dksX10_takeItem_14 7 rfl rfl)
theorem dX10_takeItem_335 : decode cX10_takeItem 335 = .ok (.ifCond .ne 17, 3) := dk_154 0 17 (dk_at dksX10_takeItem_14 10 rfl rfl)
theorem dX10_takeItem_338 : decode cX10_takeItem 338 = .ok (.aload_n 0, 1) := dk_42 (dk_at dksX10_takeItem_14 13 rfl rfl)
theorem dX10_takeItem_339 : decode cX10_takeItem 339 = .ok (.getfield 41, 3) := dk_180 0 41 (dk_at dksX10_takeItem_14 14 rfl rfl)
theorem dX10_takeItem_342 : decode cX10_takeItem 342 = .ok (.aload_n 0, 1) := dk_42 (dk_at dksX10_takeItem_14 17 rfl rfl)
theorem dX10_takeItem_343 : decode cX10_takeItem 343 = .ok (.getfield 81, 3) := dk_180 0 81 (dk_at dksX10_takeItem_14 18 rfl rfl)
theorem dX10_takeItem_346 : decode cX10_takeItem 346 = .ok (.iaload, 1) := dk_46 (dk_at dksX10_takeItem_14 21 rfl rfl)
theorem dX10_takeItem_347 : decode cX10_takeItem 347 = .ok (.bipush 59, 2) := dk_16 59 (dk_at dksX10_takeItem_14 22 rfl rfl)
theorem dX10_takeItem_349 : decode cX10_takeItem 349 = .ok (.if_icmp .eq 11, 3) := dk_159 0 11 (dk_at dksX10_takeItem_15 0 rfl rfl)
theorem dX10_takeItem_352 : decode cX10_takeItem 352 = .ok (.aload_n 0, 1) := dk_42 (dk_at dksX10_takeItem_15 3 rfl rfl)
theorem dX10_takeItem_353 : decode cX10_takeItem 353 = .ok (.aload_n 0, 1) := dk_42 (dk_at dksX10_takeItem_15 4 rfl rfl)
theorem dX10_takeItem_354 : decode cX10_takeItem 354 = .ok (.getfield 81, 3) := dk_180 0 81 (dk_at dksX10_takeItem_15 5 rfl rfl)
theorem dX10_takeItem_357 : decode cX10_takeItem 357 = .ok (.putfield 84, 3) := dk_181 0 84 (dk_at dksX10_takeItem_15 8 rfl rfl)
theorem dX10_takeItem_360 : decode cX10_takeItem 360 = .ok (.aload_n 0, 1) := dk_42 (dk_at dksX10_takeItem_15 11 rfl rfl)
theorem dX10_takeItem_361 : decode cX10_takeItem 361 = .ok (.dup, 1) := dk_89 (dk_at dksX10_takeItem_15 12 rfl rfl)
theorem dX10_takeItem_362 : decode cX10_takeItem 362 = .ok (.getfield 81, 3) := dk_180 0 81 (dk_at dksX10_takeItem_15 13 rfl rfl)
theorem dX10_takeItem_365 : decode cX10_takeItem 365 = .ok (.iconst 1, 1) := dk_4 (dk_at dksX10_takeItem_15 16 rfl rfl)
theorem dX10_takeItem_366 : decode cX10_takeItem 366 = .ok (.iadd, 1) := dk_96 (dk_at dksX10_takeItem_15 17 rfl rfl)
theorem dX10_takeItem_367 : decode cX10_takeItem 367 = .ok (.putfield 81, 3) := dk_181 0 81 (dk_at dksX10_takeItem_15 18 rfl rfl)
theorem dX10_takeItem_370 : decode cX10_takeItem 370 = .ok (.return_, 1) := dk_177 (dk_at dksX10_takeItem_15 21 rfl rfl)
abbrev cX10_takeLetters : ByteArray := prog_14_method_13_code
def yX10_takeLetters : MethodName := ⟨RX10, "takeLetters", "()J"⟩
def dkwX10_takeLetters_3 : List UInt8 := [101, 167, 0, 4, 31, 64, 42, 89, 180, 0, 81, 4, 96, 181, 0, 81, 167, 255, 177, 31, 173]
abbrev dktX10_takeLetters_3 : List UInt8 := dkwX10_takeLetters_3 ++ []
def dkwX10_takeLetters_2 : List UInt8 := [16, 7, 162, 0, 26, 20, 0, 103, 31, 105, 42, 180, 0, 41, 42, 180, 0, 81, 46, 133, 97, 20, 0, 105]
abbrev dktX10_takeLetters_2 : List UInt8 := dkwX10_takeLetters_2 ++ dktX10_takeLetters_3
def dkwX10_takeLetters_1 : List UInt8 := [180, 0, 81, 46, 133, 20, 0, 99, 20, 0, 101, 184, 0, 67, 153, 0, 52, 42, 180, 0, 81, 29, 100]
abbrev dktX10_takeLetters_1 : List UInt8 := dkwX10_takeLetters_1 ++ dktX10_takeLetters_2
def dkwX10_takeLetters_0 : List UInt8 := [9, 64, 42, 180, 0, 81, 62, 42, 180, 0, 81, 42, 180, 0, 76, 162, 0, 74, 42, 180, 0, 41, 42]
abbrev dktX10_takeLetters_0 : List UInt8 := dkwX10_takeLetters_0 ++ dktX10_takeLetters_1
theorem dksX10_takeLetters_0 : cX10_takeLetters.data.toList.drop 0 = dktX10_takeLetters_0 := by decide +kernel
theorem dksX10_takeLetters_1 : cX10_takeLetters.data.toList.drop 23 = dktX10_takeLetters_1 := dk_seg dksX10_takeLetters_0 23 rfl rfl
theorem dksX10_takeLetters_2 : cX10_takeLetters.data.toList.drop 46 = dktX10_takeLetters_2 := dk_seg dksX10_takeLetters_1 23 rfl rfl
theorem dksX10_takeLetters_3 : cX10_takeLetters.data.toList.drop 70 = dktX10_takeLetters_3 := dk_seg dksX10_takeLetters_2 24 rfl rfl
theorem dX10_takeLetters_0 : decode cX10_takeLetters 0 = .ok (.lconst 0, 1) := dk_9 (dk_at dksX10_takeLetters_0 0 rfl rfl)
theorem dX10_takeLetters_1 : decode cX10_takeLetters 1 = .ok (.lstore_n 1, 1) := dk_64 (dk_at dksX10_takeLetters_0 1 rfl rfl)
theorem dX10_takeLetters_2 : decode cX10_takeLetters 2 = .ok (.aload_n 0, 1) := dk_42 (dk_at dksX10_takeLetters_0 2 rfl rfl)
theorem dX10_takeLetters_3 : decode cX10_takeLetters 3 = .ok (.getfield 81, 3) := dk_180 0 81 (dk_at dksX10_takeLetters_0 3 rfl rfl)
theorem dX10_takeLetters_6 : decode cX10_takeLetters 6 = .ok (.istore_n 3, 1) := dk_62 (dk_at dksX10_takeLetters_0 6 rfl rfl)
theorem dX10_takeLetters_7 : decode cX10_takeLetters 7 = .ok (.aload_n 0, 1) := dk_42 (dk_at dksX10_takeLetters_0 7 rfl rfl)
theorem dX10_takeLetters_8 : decode cX10_takeLetters 8 = .ok (.getfield 81, 3) := dk_180 0 81 (dk_at dksX10_takeLetters_0 8 rfl rfl)
theorem dX10_takeLetters_11 : decode cX10_takeLetters 11 = .ok (.aload_n 0, 1) := dk_42 (dk_at dksX10_takeLetters_0 11 rfl rfl)
theorem dX10_takeLetters_12 : decode cX10_takeLetters 12 = .ok (.getfield 76, 3) := dk_180 0 76 (dk_at dksX10_takeLetters_0 12 rfl rfl)
theorem dX10_takeLetters_15 : decode cX10_takeLetters 15 = .ok (.if_icmp .ge 74, 3) := dk_162 0 74 (dk_at dksX10_takeLetters_0 15 rfl rfl)
theorem dX10_takeLetters_18 : decode cX10_takeLetters 18 = .ok (.aload_n 0, 1) := dk_42 (dk_at dksX10_takeLetters_0 18 rfl rfl)
theorem dX10_takeLetters_19 : decode cX10_takeLetters 19 = .ok (.getfield 41, 3) := dk_180 0 41 (dk_at dksX10_takeLetters_0 19 rfl rfl)
theorem dX10_takeLetters_22 : decode cX10_takeLetters 22 = .ok (.aload_n 0, 1) := dk_42 (dk_at dksX10_takeLetters_0 22 rfl rfl)
theorem dX10_takeLetters_23 : decode cX10_takeLetters 23 = .ok (.getfield 81, 3) := dk_180 0 81 (dk_at dksX10_takeLetters_1 0 rfl rfl)
theorem dX10_takeLetters_26 : decode cX10_takeLetters 26 = .ok (.iaload, 1) := dk_46 (dk_at dksX10_takeLetters_1 3 rfl rfl)
theorem dX10_takeLetters_27 : decode cX10_takeLetters 27 = .ok (.i2l, 1) := dk_133 (dk_at dksX10_takeLetters_1 4 rfl rfl)
theorem dX10_takeLetters_28 : decode cX10_takeLetters 28 = .ok (.ldc2_w 99, 3) := dk_20 0 99 (dk_at dksX10_takeLetters_1 5 rfl rfl)
theorem dX10_takeLetters_31 : decode cX10_takeLetters 31 = .ok (.ldc2_w 101, 3) := dk_20 0 101 (dk_at dksX10_takeLetters_1 8 rfl rfl)
theorem dX10_takeLetters_34 : decode cX10_takeLetters 34 = .ok (.invokestatic 67, 3) := dk_184 0 67 (dk_at dksX10_takeLetters_1 11 rfl rfl)
theorem dX10_takeLetters_37 : decode cX10_takeLetters 37 = .ok (.ifCond .eq 52, 3) := dk_153 0 52 (dk_at dksX10_takeLetters_1 14 rfl rfl)
theorem dX10_takeLetters_40 : decode cX10_takeLetters 40 = .ok (.aload_n 0, 1) := dk_42 (dk_at dksX10_takeLetters_1 17 rfl rfl)
theorem dX10_takeLetters_41 : decode cX10_takeLetters 41 = .ok (.getfield 81, 3) := dk_180 0 81 (dk_at dksX10_takeLetters_1 18 rfl rfl)
theorem dX10_takeLetters_44 : decode cX10_takeLetters 44 = .ok (.iload_n 3, 1) := dk_29 (dk_at dksX10_takeLetters_1 21 rfl rfl)
theorem dX10_takeLetters_45 : decode cX10_takeLetters 45 = .ok (.isub, 1) := dk_100 (dk_at dksX10_takeLetters_1 22 rfl rfl)
theorem dX10_takeLetters_46 : decode cX10_takeLetters 46 = .ok (.bipush 7, 2) := dk_16 7 (dk_at dksX10_takeLetters_2 0 rfl rfl)
theorem dX10_takeLetters_48 : decode cX10_takeLetters 48 = .ok (.if_icmp .ge 26, 3) := dk_162 0 26 (dk_at dksX10_takeLetters_2 2 rfl rfl)
theorem dX10_takeLetters_51 : decode cX10_takeLetters 51 = .ok (.ldc2_w 103, 3) := dk_20 0 103 (dk_at dksX10_takeLetters_2 5 rfl rfl)
theorem dX10_takeLetters_54 : decode cX10_takeLetters 54 = .ok (.lload_n 1, 1) := dk_31 (dk_at dksX10_takeLetters_2 8 rfl rfl)
theorem dX10_takeLetters_55 : decode cX10_takeLetters 55 = .ok (.lmul, 1) := dk_105 (dk_at dksX10_takeLetters_2 9 rfl rfl)
theorem dX10_takeLetters_56 : decode cX10_takeLetters 56 = .ok (.aload_n 0, 1) := dk_42 (dk_at dksX10_takeLetters_2 10 rfl rfl)
theorem dX10_takeLetters_57 : decode cX10_takeLetters 57 = .ok (.getfield 41, 3) := dk_180 0 41 (dk_at dksX10_takeLetters_2 11 rfl rfl)
theorem dX10_takeLetters_60 : decode cX10_takeLetters 60 = .ok (.aload_n 0, 1) := dk_42 (dk_at dksX10_takeLetters_2 14 rfl rfl)
theorem dX10_takeLetters_61 : decode cX10_takeLetters 61 = .ok (.getfield 81, 3) := dk_180 0 81 (dk_at dksX10_takeLetters_2 15 rfl rfl)
theorem dX10_takeLetters_64 : decode cX10_takeLetters 64 = .ok (.iaload, 1) := dk_46 (dk_at dksX10_takeLetters_2 18 rfl rfl)
theorem dX10_takeLetters_65 : decode cX10_takeLetters 65 = .ok (.i2l, 1) := dk_133 (dk_at dksX10_takeLetters_2 19 rfl rfl)
theorem dX10_takeLetters_66 : decode cX10_takeLetters 66 = .ok (.ladd, 1) := dk_97 (dk_at dksX10_takeLetters_2 20 rfl rfl)
theorem dX10_takeLetters_67 : decode cX10_takeLetters 67 = .ok (.ldc2_w 105, 3) := dk_20 0 105 (dk_at dksX10_takeLetters_2 21 rfl rfl)
theorem dX10_takeLetters_70 : decode cX10_takeLetters 70 = .ok (.lsub, 1) := dk_101 (dk_at dksX10_takeLetters_3 0 rfl rfl)
theorem dX10_takeLetters_71 : decode cX10_takeLetters 71 = .ok (.goto 4, 3) := dk_167 0 4 (dk_at dksX10_takeLetters_3 1 rfl rfl)
theorem dX10_takeLetters_74 : decode cX10_takeLetters 74 = .ok (.lload_n 1, 1) := dk_31 (dk_at dksX10_takeLetters_3 4 rfl rfl)
theorem dX10_takeLetters_75 : decode cX10_takeLetters 75 = .ok (.lstore_n 1, 1) := dk_64 (dk_at dksX10_takeLetters_3 5 rfl rfl)
theorem dX10_takeLetters_76 : decode cX10_takeLetters 76 = .ok (.aload_n 0, 1) := dk_42 (dk_at dksX10_takeLetters_3 6 rfl rfl)
theorem dX10_takeLetters_77 : decode cX10_takeLetters 77 = .ok (.dup, 1) := dk_89 (dk_at dksX10_takeLetters_3 7 rfl rfl)
theorem dX10_takeLetters_78 : decode cX10_takeLetters 78 = .ok (.getfield 81, 3) := dk_180 0 81 (dk_at dksX10_takeLetters_3 8 rfl rfl)
theorem dX10_takeLetters_81 : decode cX10_takeLetters 81 = .ok (.iconst 1, 1) := dk_4 (dk_at dksX10_takeLetters_3 11 rfl rfl)
theorem dX10_takeLetters_82 : decode cX10_takeLetters 82 = .ok (.iadd, 1) := dk_96 (dk_at dksX10_takeLetters_3 12 rfl rfl)
theorem dX10_takeLetters_83 : decode cX10_takeLetters 83 = .ok (.putfield 81, 3) := dk_181 0 81 (dk_at dksX10_takeLetters_3 13 rfl rfl)
theorem dX10_takeLetters_86 : decode cX10_takeLetters 86 = .ok (.goto (-79), 3) := dk_167 255 177 (dk_at dksX10_takeLetters_3 16 rfl rfl)
theorem dX10_takeLetters_89 : decode cX10_takeLetters 89 = .ok (.lload_n 1, 1) := dk_31 (dk_at dksX10_takeLetters_3 19 rfl rfl)
theorem dX10_takeLetters_90 : decode cX10_takeLetters 90 = .ok (.lreturn, 1) := dk_173 (dk_at dksX10_takeLetters_3 20 rfl rfl)
abbrev cX10_takeNumber : ByteArray := prog_14_method_12_code
def yX10_takeNumber : MethodName := ⟨RX10, "takeNumber", "(III)I"⟩
def dkwX10_takeNumber_8 : List UInt8 := [167, 0, 5, 21, 4, 181, 0, 84, 21, 5, 172]
abbrev dktX10_takeNumber_8 : List UInt8 := dkwX10_takeNumber_8 ++ []
def dkwX10_takeNumber_7 : List UInt8 := [21, 5, 29, 159, 0, 7, 4, 167, 0, 4, 3, 54, 6, 42, 21, 6, 153, 0, 10, 42, 180, 0, 84]
abbrev dktX10_takeNumber_7 : List UInt8 := dkwX10_takeNumber_7 ++ dktX10_takeNumber_8
def dkwX10_takeNumber_6 : List UInt8 := [16, 48, 159, 0, 31, 21, 5, 133, 27, 133, 28, 16, 99, 184, 0, 95, 133, 184, 0, 67, 153, 0, 13]
abbrev dktX10_takeNumber_6 : List UInt8 := dkwX10_takeNumber_6 ++ dktX10_takeNumber_7
def dkwX10_takeNumber_5 : List UInt8 := [21, 4, 164, 0, 54, 42, 180, 0, 81, 21, 4, 100, 4, 159, 0, 15, 42, 180, 0, 41, 21, 4, 46]
abbrev dktX10_takeNumber_5 : List UInt8 := dkwX10_takeNumber_5 ++ dktX10_takeNumber_6
def dkwX10_takeNumber_4 : List UInt8 := [16, 100, 184, 0, 95, 54, 5, 42, 89, 180, 0, 81, 4, 96, 181, 0, 81, 167, 255, 188, 42, 180, 0, 81]
abbrev dktX10_takeNumber_4 : List UInt8 := dkwX10_takeNumber_4 ++ dktX10_takeNumber_5
def dkwX10_takeNumber_3 : List UInt8 := [184, 0, 67, 153, 0, 41, 16, 10, 21, 5, 104, 42, 180, 0, 41, 42, 180, 0, 81, 46, 96, 16, 48, 100]
abbrev dktX10_takeNumber_3 : List UInt8 := dkwX10_takeNumber_3 ++ dktX10_takeNumber_4
def dkwX10_takeNumber_2 : List UInt8 := [180, 0, 76, 162, 0, 63, 42, 180, 0, 41, 42, 180, 0, 81, 46, 133, 20, 0, 91, 20, 0, 93]
abbrev dktX10_takeNumber_2 : List UInt8 := dkwX10_takeNumber_2 ++ dktX10_takeNumber_3
def dkwX10_takeNumber_1 : List UInt8 := [180, 0, 84, 155, 0, 5, 3, 172, 42, 180, 0, 81, 54, 4, 3, 54, 5, 42, 180, 0, 81, 42]
abbrev dktX10_takeNumber_1 : List UInt8 := dkwX10_takeNumber_1 ++ dktX10_takeNumber_2
def dkwX10_takeNumber_0 : List UInt8 := [42, 180, 0, 84, 156, 0, 18, 42, 182, 0, 87, 153, 0, 11, 42, 42, 180, 0, 76, 181, 0, 84, 42]
abbrev dktX10_takeNumber_0 : List UInt8 := dkwX10_takeNumber_0 ++ dktX10_takeNumber_1
theorem dksX10_takeNumber_0 : cX10_takeNumber.data.toList.drop 0 = dktX10_takeNumber_0 := by decide +kernel
theorem dksX10_takeNumber_1 : cX10_takeNumber.data.toList.drop 23 = dktX10_takeNumber_1 := dk_seg dksX10_takeNumber_0 23 rfl rfl
theorem dksX10_takeNumber_2 : cX10_takeNumber.data.toList.drop 45 = dktX10_takeNumber_2 := dk_seg dksX10_takeNumber_1 22 rfl rfl
theorem dksX10_takeNumber_3 : cX10_takeNumber.data.toList.drop 67 = dktX10_takeNumber_3 := dk_seg dksX10_takeNumber_2 22 rfl rfl
theorem dksX10_takeNumber_4 : cX10_takeNumber.data.toList.drop 91 = dktX10_takeNumber_4 := dk_seg dksX10_takeNumber_3 24 rfl rfl
theorem dksX10_takeNumber_5 : cX10_takeNumber.data.toList.drop 115 = dktX10_takeNumber_5 := dk_seg dksX10_takeNumber_4 24 rfl rfl
theorem dksX10_takeNumber_6 : cX10_takeNumber.data.toList.drop 138 = dktX10_takeNumber_6 := dk_seg dksX10_takeNumber_5 23 rfl rfl
theorem dksX10_takeNumber_7 : cX10_takeNumber.data.toList.drop 161 = dktX10_takeNumber_7 := dk_seg dksX10_takeNumber_6 23 rfl rfl
theorem dksX10_takeNumber_8 : cX10_takeNumber.data.toList.drop 184 = dktX10_takeNumber_8 := dk_seg dksX10_takeNumber_7 23 rfl rfl
theorem dX10_takeNumber_0 : decode cX10_takeNumber 0 = .ok (.aload_n 0, 1) := dk_42 (dk_at dksX10_takeNumber_0 0 rfl rfl)
theorem dX10_takeNumber_1 : decode cX10_takeNumber 1 = .ok (.getfield 84, 3) := dk_180 0 84 (dk_at dksX10_takeNumber_0 1 rfl rfl)
theorem dX10_takeNumber_4 : decode cX10_takeNumber 4 = .ok (.ifCond .ge 18, 3) := dk_156 0 18 (dk_at dksX10_takeNumber_0 4 rfl rfl)
theorem dX10_takeNumber_7 : decode cX10_takeNumber 7 = .ok (.aload_n 0, 1) := dk_42 (dk_at dksX10_takeNumber_0 7 rfl rfl)
theorem dX10_takeNumber_8 : decode cX10_takeNumber 8 = .ok (.invokevirtual 87, 3) := dk_182 0 87 (dk_at dksX10_takeNumber_0 8 rfl rfl)
theorem dX10_takeNumber_11 : decode cX10_takeNumber 11 = .ok (.ifCond .eq 11, 3) := dk_153 0 11 (dk_at dksX10_takeNumber_0 11 rfl rfl)
theorem dX10_takeNumber_14 : decode cX10_takeNumber 14 = .ok (.aload_n 0, 1) := dk_42 (dk_at dksX10_takeNumber_0 14 rfl rfl)
theorem dX10_takeNumber_15 : decode cX10_takeNumber 15 = .ok (.aload_n 0, 1) := dk_42 (dk_at dksX10_takeNumber_0 15 rfl rfl)
theorem dX10_takeNumber_16 : decode cX10_takeNumber 16 = .ok (.getfield 76, 3) := dk_180 0 76 (dk_at dksX10_takeNumber_0 16 rfl rfl)
theorem dX10_takeNumber_19 : decode cX10_takeNumber 19 = .ok (.putfield 84, 3) := dk_181 0 84 (dk_at dksX10_takeNumber_0 19 rfl rfl)
theorem dX10_takeNumber_22 : decode cX10_takeNumber 22 = .ok (.aload_n 0, 1) := dk_42 (dk_at dksX10_takeNumber_0 22 rfl rfl)
theorem dX10_takeNumber_23 : decode cX10_takeNumber 23 = .ok (.getfield 84, 3) := dk_180 0 84 (dk_at dksX10_takeNumber_1 0 rfl rfl)
theorem dX10_takeNumber_26 : decode cX10_takeNumber 26 = .ok (.ifCond .lt 5, 3) := dk_155 0 5 (dk_at dksX10_takeNumber_1 3 rfl rfl)
theorem dX10_takeNumber_29 : decode cX10_takeNumber 29 = .ok (.iconst 0, 1) := dk_3 (dk_at dksX10_takeNumber_1 6 rfl rfl)
theorem dX10_takeNumber_30 : decode cX10_takeNumber 30 = .ok (.ireturn, 1) := dk_172 (dk_at dksX10_takeNumber_1 7 rfl rfl)
theorem dX10_takeNumber_31 : decode cX10_takeNumber 31 = .ok (.aload_n 0, 1) := dk_42 (dk_at dksX10_takeNumber_1 8 rfl rfl)
theorem dX10_takeNumber_32 : decode cX10_takeNumber 32 = .ok (.getfield 81, 3) := dk_180 0 81 (dk_at dksX10_takeNumber_1 9 rfl rfl)
theorem dX10_takeNumber_35 : decode cX10_takeNumber 35 = .ok (.istore 4, 2) := dk_54 4 (dk_at dksX10_takeNumber_1 12 rfl rfl)
theorem dX10_takeNumber_37 : decode cX10_takeNumber 37 = .ok (.iconst 0, 1) := dk_3 (dk_at dksX10_takeNumber_1 14 rfl rfl)
theorem dX10_takeNumber_38 : decode cX10_takeNumber 38 = .ok (.istore 5, 2) := dk_54 5 (dk_at dksX10_takeNumber_1 15 rfl rfl)
theorem dX10_takeNumber_40 : decode cX10_takeNumber 40 = .ok (.aload_n 0, 1) := dk_42 (dk_at dksX10_takeNumber_1 17 rfl rfl)
theorem dX10_takeNumber_41 : decode cX10_takeNumber 41 = .ok (.getfield 81, 3) := dk_180 0 81 (dk_at dksX10_takeNumber_1 18 rfl rfl)
theorem dX10_takeNumber_44 : decode cX10_takeNumber 44 = .ok (.aload_n 0, 1) := dk_42 (dk_at dksX10_takeNumber_1 21 rfl rfl)
theorem dX10_takeNumber_45 : decode cX10_takeNumber 45 = .ok (.getfield 76, 3) := dk_180 0 76 (dk_at dksX10_takeNumber_2 0 rfl rfl)
theorem dX10_takeNumber_48 : decode cX10_takeNumber 48 = .ok (.if_icmp .ge 63, 3) := dk_162 0 63 (dk_at dksX10_takeNumber_2 3 rfl rfl)
theorem dX10_takeNumber_51 : decode cX10_takeNumber 51 = .ok (.aload_n 0, 1) := dk_42 (dk_at dksX10_takeNumber_2 6 rfl rfl)
theorem dX10_takeNumber_52 : decode cX10_takeNumber 52 = .ok (.getfield 41, 3) := dk_180 0 41 (dk_at dksX10_takeNumber_2 7 rfl rfl)
theorem dX10_takeNumber_55 : decode cX10_takeNumber 55 = .ok (.aload_n 0, 1) := dk_42 (dk_at dksX10_takeNumber_2 10 rfl rfl)
theorem dX10_takeNumber_56 : decode cX10_takeNumber 56 = .ok (.getfield 81, 3) := dk_180 0 81 (dk_at dksX10_takeNumber_2 11 rfl rfl)
theorem dX10_takeNumber_59 : decode cX10_takeNumber 59 = .ok (.iaload, 1) := dk_46 (dk_at dksX10_takeNumber_2 14 rfl rfl)
theorem dX10_takeNumber_60 : decode cX10_takeNumber 60 = .ok (.i2l, 1) := dk_133 (dk_at dksX10_takeNumber_2 15 rfl rfl)
theorem dX10_takeNumber_61 : decode cX10_takeNumber 61 = .ok (.ldc2_w 91, 3) := dk_20 0 91 (dk_at dksX10_takeNumber_2 16 rfl rfl)
theorem dX10_takeNumber_64 : decode cX10_takeNumber 64 = .ok (.ldc2_w 93, 3) := dk_20 0 93 (dk_at dksX10_takeNumber_2 19 rfl rfl)
theorem dX10_takeNumber_67 : decode cX10_takeNumber 67 = .ok (.invokestatic 67, 3) := dk_184 0 67 (dk_at dksX10_takeNumber_3 0 rfl rfl)
theorem dX10_takeNumber_70 : decode cX10_takeNumber 70 = .ok (.ifCond .eq 41, 3) := dk_153 0 41 (dk_at dksX10_takeNumber_3 3 rfl rfl)
theorem dX10_takeNumber_73 : decode cX10_takeNumber 73 = .ok (.bipush 10, 2) := dk_16 10 (dk_at dksX10_takeNumber_3 6 rfl rfl)
theorem dX10_takeNumber_75 : decode cX10_takeNumber 75 = .ok (.iload 5, 2) := dk_21 5 (dk_at dksX10_takeNumber_3 8 rfl rfl)
theorem dX10_takeNumber_77 : decode cX10_takeNumber 77 = .ok (.imul, 1) := dk_104 (dk_at dksX10_takeNumber_3 10 rfl rfl)
theorem dX10_takeNumber_78 : decode cX10_takeNumber 78 = .ok (.aload_n 0, 1) := dk_42 (dk_at dksX10_takeNumber_3 11 rfl rfl)
theorem dX10_takeNumber_79 : decode cX10_takeNumber 79 = .ok (.getfield 41, 3) := dk_180 0 41 (dk_at dksX10_takeNumber_3 12 rfl rfl)
theorem dX10_takeNumber_82 : decode cX10_takeNumber 82 = .ok (.aload_n 0, 1) := dk_42 (dk_at dksX10_takeNumber_3 15 rfl rfl)
theorem dX10_takeNumber_83 : decode cX10_takeNumber 83 = .ok (.getfield 81, 3) := dk_180 0 81 (dk_at dksX10_takeNumber_3 16 rfl rfl)
theorem dX10_takeNumber_86 : decode cX10_takeNumber 86 = .ok (.iaload, 1) := dk_46 (dk_at dksX10_takeNumber_3 19 rfl rfl)
theorem dX10_takeNumber_87 : decode cX10_takeNumber 87 = .ok (.iadd, 1) := dk_96 (dk_at dksX10_takeNumber_3 20 rfl rfl)
theorem dX10_takeNumber_88 : decode cX10_takeNumber 88 = .ok (.bipush 48, 2) := dk_16 48 (dk_at dksX10_takeNumber_3 21 rfl rfl)
theorem dX10_takeNumber_90 : decode cX10_takeNumber 90 = .ok (.isub, 1) := dk_100 (dk_at dksX10_takeNumber_3 23 rfl rfl)
theorem dX10_takeNumber_91 : decode cX10_takeNumber 91 = .ok (.bipush 100, 2) := dk_16 100 (dk_at dksX10_takeNumber_4 0 rfl rfl)
theorem dX10_takeNumber_93 : decode cX10_takeNumber 93 = .ok (.invokestatic 95, 3) := dk_184 0 95 (dk_at dksX10_takeNumber_4 2 rfl rfl)
theorem dX10_takeNumber_96 : decode cX10_takeNumber 96 = .ok (.istore 5, 2) := dk_54 5 (dk_at dksX10_takeNumber_4 5 rfl rfl)
theorem dX10_takeNumber_98 : decode cX10_takeNumber 98 = .ok (.aload_n 0, 1) := dk_42 (dk_at dksX10_takeNumber_4 7 rfl rfl)
theorem dX10_takeNumber_99 : decode cX10_takeNumber 99 = .ok (.dup, 1) := dk_89 (dk_at dksX10_takeNumber_4 8 rfl rfl)
theorem dX10_takeNumber_100 : decode cX10_takeNumber 100 = .ok (.getfield 81, 3) := dk_180 0 81 (dk_at dksX10_takeNumber_4 9 rfl rfl)
theorem dX10_takeNumber_103 : decode cX10_takeNumber 103 = .ok (.iconst 1, 1) := dk_4 (dk_at dksX10_takeNumber_4 12 rfl rfl)
theorem dX10_takeNumber_104 : decode cX10_takeNumber 104 = .ok (.iadd, 1) := dk_96 (dk_at dksX10_takeNumber_4 13 rfl rfl)
theorem dX10_takeNumber_105 : decode cX10_takeNumber 105 = .ok (.putfield 81, 3) := dk_181 0 81 (dk_at dksX10_takeNumber_4 14 rfl rfl)
theorem dX10_takeNumber_108 : decode cX10_takeNumber 108 = .ok (.goto (-68), 3) := dk_167 255 188 (dk_at dksX10_takeNumber_4 17 rfl rfl)
theorem dX10_takeNumber_111 : decode cX10_takeNumber 111 = .ok (.aload_n 0, 1) := dk_42 (dk_at dksX10_takeNumber_4 20 rfl rfl)
theorem dX10_takeNumber_112 : decode cX10_takeNumber 112 = .ok (.getfield 81, 3) := dk_180 0 81 (dk_at dksX10_takeNumber_4 21 rfl rfl)
theorem dX10_takeNumber_115 : decode cX10_takeNumber 115 = .ok (.iload 4, 2) := dk_21 4 (dk_at dksX10_takeNumber_5 0 rfl rfl)
theorem dX10_takeNumber_117 : decode cX10_takeNumber 117 = .ok (.if_icmp .le 54, 3) := dk_164 0 54 (dk_at dksX10_takeNumber_5 2 rfl rfl)
theorem dX10_takeNumber_120 : decode cX10_takeNumber 120 = .ok (.aload_n 0, 1) := dk_42 (dk_at dksX10_takeNumber_5 5 rfl rfl)
theorem dX10_takeNumber_121 : decode cX10_takeNumber 121 = .ok (.getfield 81, 3) := dk_180 0 81 (dk_at dksX10_takeNumber_5 6 rfl rfl)
theorem dX10_takeNumber_124 : decode cX10_takeNumber 124 = .ok (.iload 4, 2) := dk_21 4 (dk_at dksX10_takeNumber_5 9 rfl rfl)
theorem dX10_takeNumber_126 : decode cX10_takeNumber 126 = .ok (.isub, 1) := dk_100 (dk_at dksX10_takeNumber_5 11 rfl rfl)
theorem dX10_takeNumber_127 : decode cX10_takeNumber 127 = .ok (.iconst 1, 1) := dk_4 (dk_at dksX10_takeNumber_5 12 rfl rfl)
theorem dX10_takeNumber_128 : decode cX10_takeNumber 128 = .ok (.if_icmp .eq 15, 3) := dk_159 0 15 (dk_at dksX10_takeNumber_5 13 rfl rfl)
theorem dX10_takeNumber_131 : decode cX10_takeNumber 131 = .ok (.aload_n 0, 1) := dk_42 (dk_at dksX10_takeNumber_5 16 rfl rfl)
theorem dX10_takeNumber_132 : decode cX10_takeNumber 132 = .ok (.getfield 41, 3) := dk_180 0 41 (dk_at dksX10_takeNumber_5 17 rfl rfl)
theorem dX10_takeNumber_135 : decode cX10_takeNumber 135 = .ok (.iload 4, 2) := dk_21 4 (dk_at dksX10_takeNumber_5 20 rfl rfl)
theorem dX10_takeNumber_137 : decode cX10_takeNumber 137 = .ok (.iaload, 1) := dk_46 (dk_at dksX10_takeNumber_5 22 rfl rfl)
theorem dX10_takeNumber_138 : decode cX10_takeNumber 138 = .ok (.bipush 48, 2) := dk_16 48 (dk_at dksX10_takeNumber_6 0 rfl rfl)
theorem dX10_takeNumber_140 : decode cX10_takeNumber 140 = .ok (.if_icmp .eq 31, 3) := dk_159 0 31 (dk_at dksX10_takeNumber_6 2 rfl rfl)
theorem dX10_takeNumber_143 : decode cX10_takeNumber 143 = .ok (.iload 5, 2) := dk_21 5 (dk_at dksX10_takeNumber_6 5 rfl rfl)
theorem dX10_takeNumber_145 : decode cX10_takeNumber 145 = .ok (.i2l, 1) := dk_133 (dk_at dksX10_takeNumber_6 7 rfl rfl)
theorem dX10_takeNumber_146 : decode cX10_takeNumber 146 = .ok (.iload_n 1, 1) := dk_27 (dk_at dksX10_takeNumber_6 8 rfl rfl)
theorem dX10_takeNumber_147 : decode cX10_takeNumber 147 = .ok (.i2l, 1) := dk_133 (dk_at dksX10_takeNumber_6 9 rfl rfl)
theorem dX10_takeNumber_148 : decode cX10_takeNumber 148 = .ok (.iload_n 2, 1) := dk_28 (dk_at dksX10_takeNumber_6 10 rfl rfl)
theorem dX10_takeNumber_149 : decode cX10_takeNumber 149 = .ok (.bipush 99, 2) := dk_16 99 (dk_at dksX10_takeNumber_6 11 rfl rfl)
theorem dX10_takeNumber_151 : decode cX10_takeNumber 151 = .ok (.invokestatic 95, 3) := dk_184 0 95 (dk_at dksX10_takeNumber_6 13 rfl rfl)
theorem dX10_takeNumber_154 : decode cX10_takeNumber 154 = .ok (.i2l, 1) := dk_133 (dk_at dksX10_takeNumber_6 16 rfl rfl)
theorem dX10_takeNumber_155 : decode cX10_takeNumber 155 = .ok (.invokestatic 67, 3) := dk_184 0 67 (dk_at dksX10_takeNumber_6 17 rfl rfl)
theorem dX10_takeNumber_158 : decode cX10_takeNumber 158 = .ok (.ifCond .eq 13, 3) := dk_153 0 13 (dk_at dksX10_takeNumber_6 20 rfl rfl)
theorem dX10_takeNumber_161 : decode cX10_takeNumber 161 = .ok (.iload 5, 2) := dk_21 5 (dk_at dksX10_takeNumber_7 0 rfl rfl)
theorem dX10_takeNumber_163 : decode cX10_takeNumber 163 = .ok (.iload_n 3, 1) := dk_29 (dk_at dksX10_takeNumber_7 2 rfl rfl)
theorem dX10_takeNumber_164 : decode cX10_takeNumber 164 = .ok (.if_icmp .eq 7, 3) := dk_159 0 7 (dk_at dksX10_takeNumber_7 3 rfl rfl)
theorem dX10_takeNumber_167 : decode cX10_takeNumber 167 = .ok (.iconst 1, 1) := dk_4 (dk_at dksX10_takeNumber_7 6 rfl rfl)
theorem dX10_takeNumber_168 : decode cX10_takeNumber 168 = .ok (.goto 4, 3) := dk_167 0 4 (dk_at dksX10_takeNumber_7 7 rfl rfl)
theorem dX10_takeNumber_171 : decode cX10_takeNumber 171 = .ok (.iconst 0, 1) := dk_3 (dk_at dksX10_takeNumber_7 10 rfl rfl)
theorem dX10_takeNumber_172 : decode cX10_takeNumber 172 = .ok (.istore 6, 2) := dk_54 6 (dk_at dksX10_takeNumber_7 11 rfl rfl)
theorem dX10_takeNumber_174 : decode cX10_takeNumber 174 = .ok (.aload_n 0, 1) := dk_42 (dk_at dksX10_takeNumber_7 13 rfl rfl)
theorem dX10_takeNumber_175 : decode cX10_takeNumber 175 = .ok (.iload 6, 2) := dk_21 6 (dk_at dksX10_takeNumber_7 14 rfl rfl)
theorem dX10_takeNumber_177 : decode cX10_takeNumber 177 = .ok (.ifCond .eq 10, 3) := dk_153 0 10 (dk_at dksX10_takeNumber_7 16 rfl rfl)
theorem dX10_takeNumber_180 : decode cX10_takeNumber 180 = .ok (.aload_n 0, 1) := dk_42 (dk_at dksX10_takeNumber_7 19 rfl rfl)
theorem dX10_takeNumber_181 : decode cX10_takeNumber 181 = .ok (.getfield 84, 3) := dk_180 0 84 (dk_at dksX10_takeNumber_7 20 rfl rfl)
theorem dX10_takeNumber_184 : decode cX10_takeNumber 184 = .ok (.goto 5, 3) := dk_167 0 5 (dk_at dksX10_takeNumber_8 0 rfl rfl)
theorem dX10_takeNumber_187 : decode cX10_takeNumber 187 = .ok (.iload 4, 2) := dk_21 4 (dk_at dksX10_takeNumber_8 3 rfl rfl)
theorem dX10_takeNumber_189 : decode cX10_takeNumber 189 = .ok (.putfield 84, 3) := dk_181 0 84 (dk_at dksX10_takeNumber_8 5 rfl rfl)
theorem dX10_takeNumber_192 : decode cX10_takeNumber 192 = .ok (.iload 5, 2) := dk_21 5 (dk_at dksX10_takeNumber_8 8 rfl rfl)
theorem dX10_takeNumber_194 : decode cX10_takeNumber 194 = .ok (.ireturn, 1) := dk_172 (dk_at dksX10_takeNumber_8 10 rfl rfl)
abbrev cX10_lesser : ByteArray := prog_14_method_6_code
def yX10_lesser : MethodName := ⟨RX10, "lesser", "(II)I"⟩
def dkwX10_lesser_0 : List UInt8 := [26, 27, 162, 0, 7, 26, 167, 0, 4, 27, 172]
abbrev dktX10_lesser_0 : List UInt8 := dkwX10_lesser_0 ++ []
theorem dksX10_lesser_0 : cX10_lesser.data.toList.drop 0 = dktX10_lesser_0 := by decide +kernel
theorem dX10_lesser_0 : decode cX10_lesser 0 = .ok (.iload_n 0, 1) := dk_26 (dk_at dksX10_lesser_0 0 rfl rfl)
theorem dX10_lesser_1 : decode cX10_lesser 1 = .ok (.iload_n 1, 1) := dk_27 (dk_at dksX10_lesser_0 1 rfl rfl)
theorem dX10_lesser_2 : decode cX10_lesser 2 = .ok (.if_icmp .ge 7, 3) := dk_162 0 7 (dk_at dksX10_lesser_0 2 rfl rfl)
theorem dX10_lesser_5 : decode cX10_lesser 5 = .ok (.iload_n 0, 1) := dk_26 (dk_at dksX10_lesser_0 5 rfl rfl)
theorem dX10_lesser_6 : decode cX10_lesser 6 = .ok (.goto 4, 3) := dk_167 0 4 (dk_at dksX10_lesser_0 6 rfl rfl)
theorem dX10_lesser_9 : decode cX10_lesser 9 = .ok (.iload_n 1, 1) := dk_27 (dk_at dksX10_lesser_0 9 rfl rfl)
theorem dX10_lesser_10 : decode cX10_lesser 10 = .ok (.ireturn, 1) := dk_172 (dk_at dksX10_lesser_0 10 rfl rfl)
abbrev cX10_person : ByteArray := prog_14_method_16_code
def yX10_person : MethodName := ⟨RX10, "person", "(II)I"⟩
def dkwX10_person_3 : List UInt8 := [96, 46, 172]
abbrev dktX10_person_3 : List UInt8 := dkwX10_person_3 ++ []
def dkwX10_person_2 : List UInt8 := [167, 0, 26, 28, 5, 160, 0, 12, 42, 180, 0, 23, 27, 46, 167, 0, 12, 42, 180, 0, 7, 16, 19, 27]
abbrev dktX10_person_2 : List UInt8 := dkwX10_person_2 ++ dktX10_person_3
def dkwX10_person_1 : List UInt8 := [154, 0, 12, 42, 180, 0, 17, 27, 46, 167, 0, 40, 28, 4, 160, 0, 12, 42, 180, 0, 20, 27, 46]
abbrev dktX10_person_1 : List UInt8 := dkwX10_person_1 ++ dktX10_person_2
def dkwX10_person_0 : List UInt8 := [42, 27, 182, 0, 136, 153, 0, 15, 28, 133, 9, 20, 0, 140, 184, 0, 67, 154, 0, 5, 2, 172, 28]
abbrev dktX10_person_0 : List UInt8 := dkwX10_person_0 ++ dktX10_person_1
theorem dksX10_person_0 : cX10_person.data.toList.drop 0 = dktX10_person_0 := by decide +kernel
theorem dksX10_person_1 : cX10_person.data.toList.drop 23 = dktX10_person_1 := dk_seg dksX10_person_0 23 rfl rfl
theorem dksX10_person_2 : cX10_person.data.toList.drop 46 = dktX10_person_2 := dk_seg dksX10_person_1 23 rfl rfl
theorem dksX10_person_3 : cX10_person.data.toList.drop 70 = dktX10_person_3 := dk_seg dksX10_person_2 24 rfl rfl
theorem dX10_person_0 : decode cX10_person 0 = .ok (.aload_n 0, 1) := dk_42 (dk_at dksX10_person_0 0 rfl rfl)
theorem dX10_person_1 : decode cX10_person 1 = .ok (.iload_n 1, 1) := dk_27 (dk_at dksX10_person_0 1 rfl rfl)
theorem dX10_person_2 : decode cX10_person 2 = .ok (.invokevirtual 136, 3) := dk_182 0 136 (dk_at dksX10_person_0 2 rfl rfl)
theorem dX10_person_5 : decode cX10_person 5 = .ok (.ifCond .eq 15, 3) := dk_153 0 15 (dk_at dksX10_person_0 5 rfl rfl)
theorem dX10_person_8 : decode cX10_person 8 = .ok (.iload_n 2, 1) := dk_28 (dk_at dksX10_person_0 8 rfl rfl)
theorem dX10_person_9 : decode cX10_person 9 = .ok (.i2l, 1) := dk_133 (dk_at dksX10_person_0 9 rfl rfl)
theorem dX10_person_10 : decode cX10_person 10 = .ok (.lconst 0, 1) := dk_9 (dk_at dksX10_person_0 10 rfl rfl)
theorem dX10_person_11 : decode cX10_person 11 = .ok (.ldc2_w 140, 3) := dk_20 0 140 (dk_at dksX10_person_0 11 rfl rfl)
theorem dX10_person_14 : decode cX10_person 14 = .ok (.invokestatic 67, 3) := dk_184 0 67 (dk_at dksX10_person_0 14 rfl rfl)
theorem dX10_person_17 : decode cX10_person 17 = .ok (.ifCond .ne 5, 3) := dk_154 0 5 (dk_at dksX10_person_0 17 rfl rfl)
theorem dX10_person_20 : decode cX10_person 20 = .ok (.iconst (-1), 1) := dk_2 (dk_at dksX10_person_0 20 rfl rfl)
theorem dX10_person_21 : decode cX10_person 21 = .ok (.ireturn, 1) := dk_172 (dk_at dksX10_person_0 21 rfl rfl)
theorem dX10_person_22 : decode cX10_person 22 = .ok (.iload_n 2, 1) := dk_28 (dk_at dksX10_person_0 22 rfl rfl)
theorem dX10_person_23 : decode cX10_person 23 = .ok (.ifCond .ne 12, 3) := dk_154 0 12 (dk_at dksX10_person_1 0 rfl rfl)
theorem dX10_person_26 : decode cX10_person 26 = .ok (.aload_n 0, 1) := dk_42 (dk_at dksX10_person_1 3 rfl rfl)
theorem dX10_person_27 : decode cX10_person 27 = .ok (.getfield 17, 3) := dk_180 0 17 (dk_at dksX10_person_1 4 rfl rfl)
theorem dX10_person_30 : decode cX10_person 30 = .ok (.iload_n 1, 1) := dk_27 (dk_at dksX10_person_1 7 rfl rfl)
theorem dX10_person_31 : decode cX10_person 31 = .ok (.iaload, 1) := dk_46 (dk_at dksX10_person_1 8 rfl rfl)
theorem dX10_person_32 : decode cX10_person 32 = .ok (.goto 40, 3) := dk_167 0 40 (dk_at dksX10_person_1 9 rfl rfl)
theorem dX10_person_35 : decode cX10_person 35 = .ok (.iload_n 2, 1) := dk_28 (dk_at dksX10_person_1 12 rfl rfl)
theorem dX10_person_36 : decode cX10_person 36 = .ok (.iconst 1, 1) := dk_4 (dk_at dksX10_person_1 13 rfl rfl)
theorem dX10_person_37 : decode cX10_person 37 = .ok (.if_icmp .ne 12, 3) := dk_160 0 12 (dk_at dksX10_person_1 14 rfl rfl)
theorem dX10_person_40 : decode cX10_person 40 = .ok (.aload_n 0, 1) := dk_42 (dk_at dksX10_person_1 17 rfl rfl)
theorem dX10_person_41 : decode cX10_person 41 = .ok (.getfield 20, 3) := dk_180 0 20 (dk_at dksX10_person_1 18 rfl rfl)
theorem dX10_person_44 : decode cX10_person 44 = .ok (.iload_n 1, 1) := dk_27 (dk_at dksX10_person_1 21 rfl rfl)
theorem dX10_person_45 : decode cX10_person 45 = .ok (.iaload, 1) := dk_46 (dk_at dksX10_person_1 22 rfl rfl)
theorem dX10_person_46 : decode cX10_person 46 = .ok (.goto 26, 3) := dk_167 0 26 (dk_at dksX10_person_2 0 rfl rfl)
theorem dX10_person_49 : decode cX10_person 49 = .ok (.iload_n 2, 1) := dk_28 (dk_at dksX10_person_2 3 rfl rfl)
theorem dX10_person_50 : decode cX10_person 50 = .ok (.iconst 2, 1) := dk_5 (dk_at dksX10_person_2 4 rfl rfl)
theorem dX10_person_51 : decode cX10_person 51 = .ok (.if_icmp .ne 12, 3) := dk_160 0 12 (dk_at dksX10_person_2 5 rfl rfl)
theorem dX10_person_54 : decode cX10_person 54 = .ok (.aload_n 0, 1) := dk_42 (dk_at dksX10_person_2 8 rfl rfl)
theorem dX10_person_55 : decode cX10_person 55 = .ok (.getfield 23, 3) := dk_180 0 23 (dk_at dksX10_person_2 9 rfl rfl)
theorem dX10_person_58 : decode cX10_person 58 = .ok (.iload_n 1, 1) := dk_27 (dk_at dksX10_person_2 12 rfl rfl)
theorem dX10_person_59 : decode cX10_person 59 = .ok (.iaload, 1) := dk_46 (dk_at dksX10_person_2 13 rfl rfl)
theorem dX10_person_60 : decode cX10_person 60 = .ok (.goto 12, 3) := dk_167 0 12 (dk_at dksX10_person_2 14 rfl rfl)
theorem dX10_person_63 : decode cX10_person 63 = .ok (.aload_n 0, 1) := dk_42 (dk_at dksX10_person_2 17 rfl rfl)
theorem dX10_person_64 : decode cX10_person 64 = .ok (.getfield 7, 3) := dk_180 0 7 (dk_at dksX10_person_2 18 rfl rfl)
theorem dX10_person_67 : decode cX10_person 67 = .ok (.bipush 19, 2) := dk_16 19 (dk_at dksX10_person_2 21 rfl rfl)
theorem dX10_person_69 : decode cX10_person 69 = .ok (.iload_n 1, 1) := dk_27 (dk_at dksX10_person_2 23 rfl rfl)
theorem dX10_person_70 : decode cX10_person 70 = .ok (.iadd, 1) := dk_96 (dk_at dksX10_person_3 0 rfl rfl)
theorem dX10_person_71 : decode cX10_person 71 = .ok (.iaload, 1) := dk_46 (dk_at dksX10_person_3 1 rfl rfl)
theorem dX10_person_72 : decode cX10_person 72 = .ok (.ireturn, 1) := dk_172 (dk_at dksX10_person_3 2 rfl rfl)
abbrev cX10_isOne : ByteArray := prog_14_method_7_code
def yX10_isOne : MethodName := ⟨RX10, "isOne", "(I)Z"⟩
def dkwX10_isOne_0 : List UInt8 := [27, 133, 9, 42, 180, 0, 63, 4, 100, 133, 184, 0, 67, 172]
abbrev dktX10_isOne_0 : List UInt8 := dkwX10_isOne_0 ++ []
theorem dksX10_isOne_0 : cX10_isOne.data.toList.drop 0 = dktX10_isOne_0 := by decide +kernel
theorem dX10_isOne_0 : decode cX10_isOne 0 = .ok (.iload_n 1, 1) := dk_27 (dk_at dksX10_isOne_0 0 rfl rfl)
theorem dX10_isOne_1 : decode cX10_isOne 1 = .ok (.i2l, 1) := dk_133 (dk_at dksX10_isOne_0 1 rfl rfl)
theorem dX10_isOne_2 : decode cX10_isOne 2 = .ok (.lconst 0, 1) := dk_9 (dk_at dksX10_isOne_0 2 rfl rfl)
theorem dX10_isOne_3 : decode cX10_isOne 3 = .ok (.aload_n 0, 1) := dk_42 (dk_at dksX10_isOne_0 3 rfl rfl)
theorem dX10_isOne_4 : decode cX10_isOne 4 = .ok (.getfield 63, 3) := dk_180 0 63 (dk_at dksX10_isOne_0 4 rfl rfl)
theorem dX10_isOne_7 : decode cX10_isOne 7 = .ok (.iconst 1, 1) := dk_4 (dk_at dksX10_isOne_0 7 rfl rfl)
theorem dX10_isOne_8 : decode cX10_isOne 8 = .ok (.isub, 1) := dk_100 (dk_at dksX10_isOne_0 8 rfl rfl)
theorem dX10_isOne_9 : decode cX10_isOne 9 = .ok (.i2l, 1) := dk_133 (dk_at dksX10_isOne_0 9 rfl rfl)
theorem dX10_isOne_10 : decode cX10_isOne 10 = .ok (.invokestatic 67, 3) := dk_184 0 67 (dk_at dksX10_isOne_0 10 rfl rfl)
theorem dX10_isOne_13 : decode cX10_isOne 13 = .ok (.ireturn, 1) := dk_172 (dk_at dksX10_isOne_0 13 rfl rfl)
abbrev cX10_asking : ByteArray := prog_14_method_18_code
def yX10_asking : MethodName := ⟨RX10, "asking", "(II)I"⟩
def dkwX10_asking_4 : List UInt8 := [167, 0, 12, 3, 167, 0, 8, 42, 27, 182, 0, 147, 172]
abbrev dktX10_asking_4 : List UInt8 := dkwX10_asking_4 ++ []
def dkwX10_asking_3 : List UInt8 := [46, 167, 0, 34, 28, 16, 6, 160, 0, 23, 29, 153, 0, 15, 42, 180, 0, 7, 16, 11, 27, 96, 46]
abbrev dktX10_asking_3 : List UInt8 := dkwX10_asking_3 ++ dktX10_asking_4
def dkwX10_asking_2 : List UInt8 := [180, 0, 26, 8, 27, 104, 28, 96, 46, 167, 0, 50, 28, 8, 160, 0, 14, 42, 180, 0, 7, 6, 27, 96]
abbrev dktX10_asking_2 : List UInt8 := dkwX10_asking_2 ++ dktX10_asking_3
def dkwX10_asking_1 : List UInt8 := [180, 0, 7, 6, 27, 96, 46, 4, 160, 0, 7, 4, 167, 0, 4, 3, 62, 28, 8, 162, 0, 16, 42]
abbrev dktX10_asking_1 : List UInt8 := dkwX10_asking_1 ++ dktX10_asking_2
def dkwX10_asking_0 : List UInt8 := [42, 27, 182, 0, 142, 153, 0, 15, 28, 133, 9, 20, 0, 145, 184, 0, 67, 154, 0, 5, 2, 172, 42]
abbrev dktX10_asking_0 : List UInt8 := dkwX10_asking_0 ++ dktX10_asking_1
theorem dksX10_asking_0 : cX10_asking.data.toList.drop 0 = dktX10_asking_0 := by decide +kernel
theorem dksX10_asking_1 : cX10_asking.data.toList.drop 23 = dktX10_asking_1 := dk_seg dksX10_asking_0 23 rfl rfl
theorem dksX10_asking_2 : cX10_asking.data.toList.drop 46 = dktX10_asking_2 := dk_seg dksX10_asking_1 23 rfl rfl
theorem dksX10_asking_3 : cX10_asking.data.toList.drop 70 = dktX10_asking_3 := dk_seg dksX10_asking_2 24 rfl rfl
theorem dksX10_asking_4 : cX10_asking.data.toList.drop 93 = dktX10_asking_4 := dk_seg dksX10_asking_3 23 rfl rfl
theorem dX10_asking_0 : decode cX10_asking 0 = .ok (.aload_n 0, 1) := dk_42 (dk_at dksX10_asking_0 0 rfl rfl)
theorem dX10_asking_1 : decode cX10_asking 1 = .ok (.iload_n 1, 1) := dk_27 (dk_at dksX10_asking_0 1 rfl rfl)
theorem dX10_asking_2 : decode cX10_asking 2 = .ok (.invokevirtual 142, 3) := dk_182 0 142 (dk_at dksX10_asking_0 2 rfl rfl)
theorem dX10_asking_5 : decode cX10_asking 5 = .ok (.ifCond .eq 15, 3) := dk_153 0 15 (dk_at dksX10_asking_0 5 rfl rfl)
theorem dX10_asking_8 : decode cX10_asking 8 = .ok (.iload_n 2, 1) := dk_28 (dk_at dksX10_asking_0 8 rfl rfl)
theorem dX10_asking_9 : decode cX10_asking 9 = .ok (.i2l, 1) := dk_133 (dk_at dksX10_asking_0 9 rfl rfl)
theorem dX10_asking_10 : decode cX10_asking 10 = .ok (.lconst 0, 1) := dk_9 (dk_at dksX10_asking_0 10 rfl rfl)
theorem dX10_asking_11 : decode cX10_asking 11 = .ok (.ldc2_w 145, 3) := dk_20 0 145 (dk_at dksX10_asking_0 11 rfl rfl)
theorem dX10_asking_14 : decode cX10_asking 14 = .ok (.invokestatic 67, 3) := dk_184 0 67 (dk_at dksX10_asking_0 14 rfl rfl)
theorem dX10_asking_17 : decode cX10_asking 17 = .ok (.ifCond .ne 5, 3) := dk_154 0 5 (dk_at dksX10_asking_0 17 rfl rfl)
theorem dX10_asking_20 : decode cX10_asking 20 = .ok (.iconst (-1), 1) := dk_2 (dk_at dksX10_asking_0 20 rfl rfl)
theorem dX10_asking_21 : decode cX10_asking 21 = .ok (.ireturn, 1) := dk_172 (dk_at dksX10_asking_0 21 rfl rfl)
theorem dX10_asking_22 : decode cX10_asking 22 = .ok (.aload_n 0, 1) := dk_42 (dk_at dksX10_asking_0 22 rfl rfl)
theorem dX10_asking_23 : decode cX10_asking 23 = .ok (.getfield 7, 3) := dk_180 0 7 (dk_at dksX10_asking_1 0 rfl rfl)
theorem dX10_asking_26 : decode cX10_asking 26 = .ok (.iconst 3, 1) := dk_6 (dk_at dksX10_asking_1 3 rfl rfl)
theorem dX10_asking_27 : decode cX10_asking 27 = .ok (.iload_n 1, 1) := dk_27 (dk_at dksX10_asking_1 4 rfl rfl)
theorem dX10_asking_28 : decode cX10_asking 28 = .ok (.iadd, 1) := dk_96 (dk_at dksX10_asking_1 5 rfl rfl)
theorem dX10_asking_29 : decode cX10_asking 29 = .ok (.iaload, 1) := dk_46 (dk_at dksX10_asking_1 6 rfl rfl)
theorem dX10_asking_30 : decode cX10_asking 30 = .ok (.iconst 1, 1) := dk_4 (dk_at dksX10_asking_1 7 rfl rfl)
theorem dX10_asking_31 : decode cX10_asking 31 = .ok (.if_icmp .ne 7, 3) := dk_160 0 7 (dk_at dksX10_asking_1 8 rfl rfl)
theorem dX10_asking_34 : decode cX10_asking 34 = .ok (.iconst 1, 1) := dk_4 (dk_at dksX10_asking_1 11 rfl rfl)
theorem dX10_asking_35 : decode cX10_asking 35 = .ok (.goto 4, 3) := dk_167 0 4 (dk_at dksX10_asking_1 12 rfl rfl)
theorem dX10_asking_38 : decode cX10_asking 38 = .ok (.iconst 0, 1) := dk_3 (dk_at dksX10_asking_1 15 rfl rfl)
theorem dX10_asking_39 : decode cX10_asking 39 = .ok (.istore_n 3, 1) := dk_62 (dk_at dksX10_asking_1 16 rfl rfl)
theorem dX10_asking_40 : decode cX10_asking 40 = .ok (.iload_n 2, 1) := dk_28 (dk_at dksX10_asking_1 17 rfl rfl)
theorem dX10_asking_41 : decode cX10_asking 41 = .ok (.iconst 5, 1) := dk_8 (dk_at dksX10_asking_1 18 rfl rfl)
theorem dX10_asking_42 : decode cX10_asking 42 = .ok (.if_icmp .ge 16, 3) := dk_162 0 16 (dk_at dksX10_asking_1 19 rfl rfl)
theorem dX10_asking_45 : decode cX10_asking 45 = .ok (.aload_n 0, 1) := dk_42 (dk_at dksX10_asking_1 22 rfl rfl)
theorem dX10_asking_46 : decode cX10_asking 46 = .ok (.getfield 26, 3) := dk_180 0 26 (dk_at dksX10_asking_2 0 rfl rfl)
theorem dX10_asking_49 : decode cX10_asking 49 = .ok (.iconst 5, 1) := dk_8 (dk_at dksX10_asking_2 3 rfl rfl)
theorem dX10_asking_50 : decode cX10_asking 50 = .ok (.iload_n 1, 1) := dk_27 (dk_at dksX10_asking_2 4 rfl rfl)
theorem dX10_asking_51 : decode cX10_asking 51 = .ok (.imul, 1) := dk_104 (dk_at dksX10_asking_2 5 rfl rfl)
theorem dX10_asking_52 : decode cX10_asking 52 = .ok (.iload_n 2, 1) := dk_28 (dk_at dksX10_asking_2 6 rfl rfl)
theorem dX10_asking_53 : decode cX10_asking 53 = .ok (.iadd, 1) := dk_96 (dk_at dksX10_asking_2 7 rfl rfl)
theorem dX10_asking_54 : decode cX10_asking 54 = .ok (.iaload, 1) := dk_46 (dk_at dksX10_asking_2 8 rfl rfl)
theorem dX10_asking_55 : decode cX10_asking 55 = .ok (.goto 50, 3) := dk_167 0 50 (dk_at dksX10_asking_2 9 rfl rfl)
theorem dX10_asking_58 : decode cX10_asking 58 = .ok (.iload_n 2, 1) := dk_28 (dk_at dksX10_asking_2 12 rfl rfl)
theorem dX10_asking_59 : decode cX10_asking 59 = .ok (.iconst 5, 1) := dk_8 (dk_at dksX10_asking_2 13 rfl rfl)
theorem dX10_asking_60 : decode cX10_asking 60 = .ok (.if_icmp .ne 14, 3) := dk_160 0 14 (dk_at dksX10_asking_2 14 rfl rfl)
theorem dX10_asking_63 : decode cX10_asking 63 = .ok (.aload_n 0, 1) := dk_42 (dk_at dksX10_asking_2 17 rfl rfl)
theorem dX10_asking_64 : decode cX10_asking 64 = .ok (.getfield 7, 3) := dk_180 0 7 (dk_at dksX10_asking_2 18 rfl rfl)
theorem dX10_asking_67 : decode cX10_asking 67 = .ok (.iconst 3, 1) := dk_6 (dk_at dksX10_asking_2 21 rfl rfl)
theorem dX10_asking_68 : decode cX10_asking 68 = .ok (.iload_n 1, 1) := dk_27 (dk_at dksX10_asking_2 22 rfl rfl)
theorem dX10_asking_69 : decode cX10_asking 69 = .ok (.iadd, 1) := dk_96 (dk_at dksX10_asking_2 23 rfl rfl)
theorem dX10_asking_70 : decode cX10_asking 70 = .ok (.iaload, 1) := dk_46 (dk_at dksX10_asking_3 0 rfl rfl)
theorem dX10_asking_71 : decode cX10_asking 71 = .ok (.goto 34, 3) := dk_167 0 34 (dk_at dksX10_asking_3 1 rfl rfl)
theorem dX10_asking_74 : decode cX10_asking 74 = .ok (.iload_n 2, 1) := dk_28 (dk_at dksX10_asking_3 4 rfl rfl)
theorem dX10_asking_75 : decode cX10_asking 75 = .ok (.bipush 6, 2) := dk_16 6 (dk_at dksX10_asking_3 5 rfl rfl)
theorem dX10_asking_77 : decode cX10_asking 77 = .ok (.if_icmp .ne 23, 3) := dk_160 0 23 (dk_at dksX10_asking_3 7 rfl rfl)
theorem dX10_asking_80 : decode cX10_asking 80 = .ok (.iload_n 3, 1) := dk_29 (dk_at dksX10_asking_3 10 rfl rfl)
theorem dX10_asking_81 : decode cX10_asking 81 = .ok (.ifCond .eq 15, 3) := dk_153 0 15 (dk_at dksX10_asking_3 11 rfl rfl)
theorem dX10_asking_84 : decode cX10_asking 84 = .ok (.aload_n 0, 1) := dk_42 (dk_at dksX10_asking_3 14 rfl rfl)
theorem dX10_asking_85 : decode cX10_asking 85 = .ok (.getfield 7, 3) := dk_180 0 7 (dk_at dksX10_asking_3 15 rfl rfl)
theorem dX10_asking_88 : decode cX10_asking 88 = .ok (.bipush 11, 2) := dk_16 11 (dk_at dksX10_asking_3 18 rfl rfl)
theorem dX10_asking_90 : decode cX10_asking 90 = .ok (.iload_n 1, 1) := dk_27 (dk_at dksX10_asking_3 20 rfl rfl)
theorem dX10_asking_91 : decode cX10_asking 91 = .ok (.iadd, 1) := dk_96 (dk_at dksX10_asking_3 21 rfl rfl)
theorem dX10_asking_92 : decode cX10_asking 92 = .ok (.iaload, 1) := dk_46 (dk_at dksX10_asking_3 22 rfl rfl)
theorem dX10_asking_93 : decode cX10_asking 93 = .ok (.goto 12, 3) := dk_167 0 12 (dk_at dksX10_asking_4 0 rfl rfl)
theorem dX10_asking_96 : decode cX10_asking 96 = .ok (.iconst 0, 1) := dk_3 (dk_at dksX10_asking_4 3 rfl rfl)
theorem dX10_asking_97 : decode cX10_asking 97 = .ok (.goto 8, 3) := dk_167 0 8 (dk_at dksX10_asking_4 4 rfl rfl)
theorem dX10_asking_100 : decode cX10_asking 100 = .ok (.aload_n 0, 1) := dk_42 (dk_at dksX10_asking_4 7 rfl rfl)
theorem dX10_asking_101 : decode cX10_asking 101 = .ok (.iload_n 1, 1) := dk_27 (dk_at dksX10_asking_4 8 rfl rfl)
theorem dX10_asking_102 : decode cX10_asking 102 = .ok (.invokevirtual 147, 3) := dk_182 0 147 (dk_at dksX10_asking_4 9 rfl rfl)
theorem dX10_asking_105 : decode cX10_asking 105 = .ok (.ireturn, 1) := dk_172 (dk_at dksX10_asking_4 12 rfl rfl)
abbrev cX10_isAsking : ByteArray := prog_14_method_8_code
def yX10_isAsking : MethodName := ⟨RX10, "isAsking", "(I)Z"⟩
def dkwX10_isAsking_0 : List UInt8 := [27, 133, 9, 42, 180, 0, 71, 4, 100, 133, 184, 0, 67, 172]
abbrev dktX10_isAsking_0 : List UInt8 := dkwX10_isAsking_0 ++ []
theorem dksX10_isAsking_0 : cX10_isAsking.data.toList.drop 0 = dktX10_isAsking_0 := by decide +kernel
theorem dX10_isAsking_0 : decode cX10_isAsking 0 = .ok (.iload_n 1, 1) := dk_27 (dk_at dksX10_isAsking_0 0 rfl rfl)
theorem dX10_isAsking_1 : decode cX10_isAsking 1 = .ok (.i2l, 1) := dk_133 (dk_at dksX10_isAsking_0 1 rfl rfl)
theorem dX10_isAsking_2 : decode cX10_isAsking 2 = .ok (.lconst 0, 1) := dk_9 (dk_at dksX10_isAsking_0 2 rfl rfl)
theorem dX10_isAsking_3 : decode cX10_isAsking 3 = .ok (.aload_n 0, 1) := dk_42 (dk_at dksX10_isAsking_0 3 rfl rfl)
theorem dX10_isAsking_4 : decode cX10_isAsking 4 = .ok (.getfield 71, 3) := dk_180 0 71 (dk_at dksX10_isAsking_0 4 rfl rfl)
theorem dX10_isAsking_7 : decode cX10_isAsking 7 = .ok (.iconst 1, 1) := dk_4 (dk_at dksX10_isAsking_0 7 rfl rfl)
theorem dX10_isAsking_8 : decode cX10_isAsking 8 = .ok (.isub, 1) := dk_100 (dk_at dksX10_isAsking_0 8 rfl rfl)
theorem dX10_isAsking_9 : decode cX10_isAsking 9 = .ok (.i2l, 1) := dk_133 (dk_at dksX10_isAsking_0 9 rfl rfl)
theorem dX10_isAsking_10 : decode cX10_isAsking 10 = .ok (.invokestatic 67, 3) := dk_184 0 67 (dk_at dksX10_isAsking_0 10 rfl rfl)
theorem dX10_isAsking_13 : decode cX10_isAsking 13 = .ok (.ireturn, 1) := dk_172 (dk_at dksX10_isAsking_0 13 rfl rfl)
abbrev cX10_sleeveOf : ByteArray := prog_14_method_17_code
def yX10_sleeveOf : MethodName := ⟨RX10, "sleeveOf", "(I)I"⟩
def dkwX10_sleeveOf_2 : List UInt8 := [29, 167, 0, 4, 28, 61, 132, 4, 1, 167, 255, 215, 132, 3, 1, 167, 255, 198, 28, 172]
abbrev dktX10_sleeveOf_2 : List UInt8 := dkwX10_sleeveOf_2 ++ []
def dkwX10_sleeveOf_1 : List UInt8 := [29, 96, 46, 162, 0, 33, 42, 180, 0, 7, 16, 23, 8, 29, 104, 96, 21, 4, 96, 46, 27, 160, 0, 7]
abbrev dktX10_sleeveOf_1 : List UInt8 := dkwX10_sleeveOf_1 ++ dktX10_sleeveOf_2
def dkwX10_sleeveOf_0 : List UInt8 := [16, 247, 61, 3, 62, 29, 42, 180, 0, 63, 162, 0, 56, 3, 54, 4, 21, 4, 42, 180, 0, 7, 16, 19]
abbrev dktX10_sleeveOf_0 : List UInt8 := dkwX10_sleeveOf_0 ++ dktX10_sleeveOf_1
theorem dksX10_sleeveOf_0 : cX10_sleeveOf.data.toList.drop 0 = dktX10_sleeveOf_0 := by decide +kernel
theorem dksX10_sleeveOf_1 : cX10_sleeveOf.data.toList.drop 24 = dktX10_sleeveOf_1 := dk_seg dksX10_sleeveOf_0 24 rfl rfl
theorem dksX10_sleeveOf_2 : cX10_sleeveOf.data.toList.drop 48 = dktX10_sleeveOf_2 := dk_seg dksX10_sleeveOf_1 24 rfl rfl
theorem dX10_sleeveOf_0 : decode cX10_sleeveOf 0 = .ok (.bipush (-9), 2) := dk_16 247 (dk_at dksX10_sleeveOf_0 0 rfl rfl)
theorem dX10_sleeveOf_2 : decode cX10_sleeveOf 2 = .ok (.istore_n 2, 1) := dk_61 (dk_at dksX10_sleeveOf_0 2 rfl rfl)
theorem dX10_sleeveOf_3 : decode cX10_sleeveOf 3 = .ok (.iconst 0, 1) := dk_3 (dk_at dksX10_sleeveOf_0 3 rfl rfl)
theorem dX10_sleeveOf_4 : decode cX10_sleeveOf 4 = .ok (.istore_n 3, 1) := dk_62 (dk_at dksX10_sleeveOf_0 4 rfl rfl)
theorem dX10_sleeveOf_5 : decode cX10_sleeveOf 5 = .ok (.iload_n 3, 1) := dk_29 (dk_at dksX10_sleeveOf_0 5 rfl rfl)
theorem dX10_sleeveOf_6 : decode cX10_sleeveOf 6 = .ok (.aload_n 0, 1) := dk_42 (dk_at dksX10_sleeveOf_0 6 rfl rfl)
theorem dX10_sleeveOf_7 : decode cX10_sleeveOf 7 = .ok (.getfield 63, 3) := dk_180 0 63 (dk_at dksX10_sleeveOf_0 7 rfl rfl)
theorem dX10_sleeveOf_10 : decode cX10_sleeveOf 10 = .ok (.if_icmp .ge 56, 3) := dk_162 0 56 (dk_at dksX10_sleeveOf_0 10 rfl rfl)
theorem dX10_sleeveOf_13 : decode cX10_sleeveOf 13 = .ok (.iconst 0, 1) := dk_3 (dk_at dksX10_sleeveOf_0 13 rfl rfl)
theorem dX10_sleeveOf_14 : decode cX10_sleeveOf 14 = .ok (.istore 4, 2) := dk_54 4 (dk_at dksX10_sleeveOf_0 14 rfl rfl)
theorem dX10_sleeveOf_16 : decode cX10_sleeveOf 16 = .ok (.iload 4, 2) := dk_21 4 (dk_at dksX10_sleeveOf_0 16 rfl rfl)
theorem dX10_sleeveOf_18 : decode cX10_sleeveOf 18 = .ok (.aload_n 0, 1) := dk_42 (dk_at dksX10_sleeveOf_0 18 rfl rfl)
theorem dX10_sleeveOf_19 : decode cX10_sleeveOf 19 = .ok (.getfield 7, 3) := dk_180 0 7 (dk_at dksX10_sleeveOf_0 19 rfl rfl)
theorem dX10_sleeveOf_22 : decode cX10_sleeveOf 22 = .ok (.bipush 19, 2) := dk_16 19 (dk_at dksX10_sleeveOf_0 22 rfl rfl)
theorem dX10_sleeveOf_24 : decode cX10_sleeveOf 24 = .ok (.iload_n 3, 1) := dk_29 (dk_at dksX10_sleeveOf_1 0 rfl rfl)
theorem dX10_sleeveOf_25 : decode cX10_sleeveOf 25 = .ok (.iadd, 1) := dk_96 (dk_at dksX10_sleeveOf_1 1 rfl rfl)
theorem dX10_sleeveOf_26 : decode cX10_sleeveOf 26 = .ok (.iaload, 1) := dk_46 (dk_at dksX10_sleeveOf_1 2 rfl rfl)
theorem dX10_sleeveOf_27 : decode cX10_sleeveOf 27 = .ok (.if_icmp .ge 33, 3) := dk_162 0 33 (dk_at dksX10_sleeveOf_1 3 rfl rfl)
theorem dX10_sleeveOf_30 : decode cX10_sleeveOf 30 = .ok (.aload_n 0, 1) := dk_42 (dk_at dksX10_sleeveOf_1 6 rfl rfl)
theorem dX10_sleeveOf_31 : decode cX10_sleeveOf 31 = .ok (.getfield 7, 3) := dk_180 0 7 (dk_at dksX10_sleeveOf_1 7 rfl rfl)
theorem dX10_sleeveOf_34 : decode cX10_sleeveOf 34 = .ok (.bipush 23, 2) := dk_16 23 (dk_at dksX10_sleeveOf_1 10 rfl rfl)
theorem dX10_sleeveOf_36 : decode cX10_sleeveOf 36 = .ok (.iconst 5, 1) := dk_8 (dk_at dksX10_sleeveOf_1 12 rfl rfl)
theorem dX10_sleeveOf_37 : decode cX10_sleeveOf 37 = .ok (.iload_n 3, 1) := dk_29 (dk_at dksX10_sleeveOf_1 13 rfl rfl)
theorem dX10_sleeveOf_38 : decode cX10_sleeveOf 38 = .ok (.imul, 1) := dk_104 (dk_at dksX10_sleeveOf_1 14 rfl rfl)
theorem dX10_sleeveOf_39 : decode cX10_sleeveOf 39 = .ok (.iadd, 1) := dk_96 (dk_at dksX10_sleeveOf_1 15 rfl rfl)
theorem dX10_sleeveOf_40 : decode cX10_sleeveOf 40 = .ok (.iload 4, 2) := dk_21 4 (dk_at dksX10_sleeveOf_1 16 rfl rfl)
theorem dX10_sleeveOf_42 : decode cX10_sleeveOf 42 = .ok (.iadd, 1) := dk_96 (dk_at dksX10_sleeveOf_1 18 rfl rfl)
theorem dX10_sleeveOf_43 : decode cX10_sleeveOf 43 = .ok (.iaload, 1) := dk_46 (dk_at dksX10_sleeveOf_1 19 rfl rfl)
theorem dX10_sleeveOf_44 : decode cX10_sleeveOf 44 = .ok (.iload_n 1, 1) := dk_27 (dk_at dksX10_sleeveOf_1 20 rfl rfl)
theorem dX10_sleeveOf_45 : decode cX10_sleeveOf 45 = .ok (.if_icmp .ne 7, 3) := dk_160 0 7 (dk_at dksX10_sleeveOf_1 21 rfl rfl)
theorem dX10_sleeveOf_48 : decode cX10_sleeveOf 48 = .ok (.iload_n 3, 1) := dk_29 (dk_at dksX10_sleeveOf_2 0 rfl rfl)
theorem dX10_sleeveOf_49 : decode cX10_sleeveOf 49 = .ok (.goto 4, 3) := dk_167 0 4 (dk_at dksX10_sleeveOf_2 1 rfl rfl)
theorem dX10_sleeveOf_52 : decode cX10_sleeveOf 52 = .ok (.iload_n 2, 1) := dk_28 (dk_at dksX10_sleeveOf_2 4 rfl rfl)
theorem dX10_sleeveOf_53 : decode cX10_sleeveOf 53 = .ok (.istore_n 2, 1) := dk_61 (dk_at dksX10_sleeveOf_2 5 rfl rfl)
theorem dX10_sleeveOf_54 : decode cX10_sleeveOf 54 = .ok (.iinc 4 1, 3) := dk_132 4 1 (dk_at dksX10_sleeveOf_2 6 rfl rfl)
theorem dX10_sleeveOf_57 : decode cX10_sleeveOf 57 = .ok (.goto (-41), 3) := dk_167 255 215 (dk_at dksX10_sleeveOf_2 9 rfl rfl)
theorem dX10_sleeveOf_60 : decode cX10_sleeveOf 60 = .ok (.iinc 3 1, 3) := dk_132 3 1 (dk_at dksX10_sleeveOf_2 12 rfl rfl)
theorem dX10_sleeveOf_63 : decode cX10_sleeveOf 63 = .ok (.goto (-58), 3) := dk_167 255 198 (dk_at dksX10_sleeveOf_2 15 rfl rfl)
theorem dX10_sleeveOf_66 : decode cX10_sleeveOf 66 = .ok (.iload_n 2, 1) := dk_28 (dk_at dksX10_sleeveOf_2 18 rfl rfl)
theorem dX10_sleeveOf_67 : decode cX10_sleeveOf 67 = .ok (.ireturn, 1) := dk_172 (dk_at dksX10_sleeveOf_2 19 rfl rfl)
abbrev cX10_slip : ByteArray := prog_14_method_19_code
def yX10_slip : MethodName := ⟨RX10, "slip", "(II)I"⟩
def dkwX10_slip_1 : List UInt8 := [162, 0, 19, 42, 180, 0, 7, 16, 23, 8, 27, 104, 96, 28, 96, 46, 167, 0, 5, 16, 251, 172]
abbrev dktX10_slip_1 : List UInt8 := dkwX10_slip_1 ++ []
def dkwX10_slip_0 : List UInt8 := [42, 27, 182, 0, 136, 153, 0, 7, 28, 156, 0, 5, 2, 172, 28, 42, 180, 0, 7, 16, 19, 27, 96, 46]
abbrev dktX10_slip_0 : List UInt8 := dkwX10_slip_0 ++ dktX10_slip_1
theorem dksX10_slip_0 : cX10_slip.data.toList.drop 0 = dktX10_slip_0 := by decide +kernel
theorem dksX10_slip_1 : cX10_slip.data.toList.drop 24 = dktX10_slip_1 := dk_seg dksX10_slip_0 24 rfl rfl
theorem dX10_slip_0 : decode cX10_slip 0 = .ok (.aload_n 0, 1) := dk_42 (dk_at dksX10_slip_0 0 rfl rfl)
theorem dX10_slip_1 : decode cX10_slip 1 = .ok (.iload_n 1, 1) := dk_27 (dk_at dksX10_slip_0 1 rfl rfl)
theorem dX10_slip_2 : decode cX10_slip 2 = .ok (.invokevirtual 136, 3) := dk_182 0 136 (dk_at dksX10_slip_0 2 rfl rfl)
theorem dX10_slip_5 : decode cX10_slip 5 = .ok (.ifCond .eq 7, 3) := dk_153 0 7 (dk_at dksX10_slip_0 5 rfl rfl)
theorem dX10_slip_8 : decode cX10_slip 8 = .ok (.iload_n 2, 1) := dk_28 (dk_at dksX10_slip_0 8 rfl rfl)
theorem dX10_slip_9 : decode cX10_slip 9 = .ok (.ifCond .ge 5, 3) := dk_156 0 5 (dk_at dksX10_slip_0 9 rfl rfl)
theorem dX10_slip_12 : decode cX10_slip 12 = .ok (.iconst (-1), 1) := dk_2 (dk_at dksX10_slip_0 12 rfl rfl)
theorem dX10_slip_13 : decode cX10_slip 13 = .ok (.ireturn, 1) := dk_172 (dk_at dksX10_slip_0 13 rfl rfl)
theorem dX10_slip_14 : decode cX10_slip 14 = .ok (.iload_n 2, 1) := dk_28 (dk_at dksX10_slip_0 14 rfl rfl)
theorem dX10_slip_15 : decode cX10_slip 15 = .ok (.aload_n 0, 1) := dk_42 (dk_at dksX10_slip_0 15 rfl rfl)
theorem dX10_slip_16 : decode cX10_slip 16 = .ok (.getfield 7, 3) := dk_180 0 7 (dk_at dksX10_slip_0 16 rfl rfl)
theorem dX10_slip_19 : decode cX10_slip 19 = .ok (.bipush 19, 2) := dk_16 19 (dk_at dksX10_slip_0 19 rfl rfl)
theorem dX10_slip_21 : decode cX10_slip 21 = .ok (.iload_n 1, 1) := dk_27 (dk_at dksX10_slip_0 21 rfl rfl)
theorem dX10_slip_22 : decode cX10_slip 22 = .ok (.iadd, 1) := dk_96 (dk_at dksX10_slip_0 22 rfl rfl)
theorem dX10_slip_23 : decode cX10_slip 23 = .ok (.iaload, 1) := dk_46 (dk_at dksX10_slip_0 23 rfl rfl)
theorem dX10_slip_24 : decode cX10_slip 24 = .ok (.if_icmp .ge 19, 3) := dk_162 0 19 (dk_at dksX10_slip_1 0 rfl rfl)
theorem dX10_slip_27 : decode cX10_slip 27 = .ok (.aload_n 0, 1) := dk_42 (dk_at dksX10_slip_1 3 rfl rfl)
theorem dX10_slip_28 : decode cX10_slip 28 = .ok (.getfield 7, 3) := dk_180 0 7 (dk_at dksX10_slip_1 4 rfl rfl)
theorem dX10_slip_31 : decode cX10_slip 31 = .ok (.bipush 23, 2) := dk_16 23 (dk_at dksX10_slip_1 7 rfl rfl)
theorem dX10_slip_33 : decode cX10_slip 33 = .ok (.iconst 5, 1) := dk_8 (dk_at dksX10_slip_1 9 rfl rfl)
theorem dX10_slip_34 : decode cX10_slip 34 = .ok (.iload_n 1, 1) := dk_27 (dk_at dksX10_slip_1 10 rfl rfl)
theorem dX10_slip_35 : decode cX10_slip 35 = .ok (.imul, 1) := dk_104 (dk_at dksX10_slip_1 11 rfl rfl)
theorem dX10_slip_36 : decode cX10_slip 36 = .ok (.iadd, 1) := dk_96 (dk_at dksX10_slip_1 12 rfl rfl)
theorem dX10_slip_37 : decode cX10_slip 37 = .ok (.iload_n 2, 1) := dk_28 (dk_at dksX10_slip_1 13 rfl rfl)
theorem dX10_slip_38 : decode cX10_slip 38 = .ok (.iadd, 1) := dk_96 (dk_at dksX10_slip_1 14 rfl rfl)
theorem dX10_slip_39 : decode cX10_slip 39 = .ok (.iaload, 1) := dk_46 (dk_at dksX10_slip_1 15 rfl rfl)
theorem dX10_slip_40 : decode cX10_slip 40 = .ok (.goto 5, 3) := dk_167 0 5 (dk_at dksX10_slip_1 16 rfl rfl)
theorem dX10_slip_43 : decode cX10_slip 43 = .ok (.bipush (-5), 2) := dk_16 251 (dk_at dksX10_slip_1 19 rfl rfl)
theorem dX10_slip_45 : decode cX10_slip 45 = .ok (.ireturn, 1) := dk_172 (dk_at dksX10_slip_1 21 rfl rfl)
abbrev cX10_promise : ByteArray := prog_14_method_24_code
def yX10_promise : MethodName := ⟨RX10, "promise", "(I)I"⟩
def dkwX10_promise_5 : List UInt8 := [180, 0, 7, 16, 19, 28, 96, 46, 172]
abbrev dktX10_promise_5 : List UInt8 := dkwX10_promise_5 ++ []
def dkwX10_promise_4 : List UInt8 := [27, 96, 42, 180, 0, 26, 8, 27, 104, 5, 96, 46, 79, 42, 3, 27, 28, 3, 182, 0, 158, 42]
abbrev dktX10_promise_4 : List UInt8 := dkwX10_promise_4 ++ dktX10_promise_5
def dkwX10_promise_3 : List UInt8 := [16, 253, 172, 42, 28, 42, 180, 0, 7, 16, 19, 28, 96, 46, 27, 182, 0, 154, 42, 180, 0, 7, 16, 11]
abbrev dktX10_promise_3 : List UInt8 := dkwX10_promise_3 ++ dktX10_promise_4
def dkwX10_promise_2 : List UInt8 := [159, 0, 6, 16, 254, 172, 42, 180, 0, 7, 16, 19, 28, 96, 46, 42, 180, 0, 17, 28, 46, 160, 0, 6]
abbrev dktX10_promise_2 : List UInt8 := dkwX10_promise_2 ++ dktX10_promise_3
def dkwX10_promise_1 : List UInt8 := [27, 96, 46, 154, 0, 22, 42, 180, 0, 26, 8, 27, 104, 4, 96, 46, 42, 180, 0, 7, 3, 46]
abbrev dktX10_promise_1 : List UInt8 := dkwX10_promise_1 ++ dktX10_promise_2
def dkwX10_promise_0 : List UInt8 := [42, 27, 182, 0, 142, 154, 0, 5, 2, 172, 42, 180, 0, 26, 8, 27, 104, 46, 61, 42, 180, 0, 7, 6]
abbrev dktX10_promise_0 : List UInt8 := dkwX10_promise_0 ++ dktX10_promise_1
theorem dksX10_promise_0 : cX10_promise.data.toList.drop 0 = dktX10_promise_0 := by decide +kernel
theorem dksX10_promise_1 : cX10_promise.data.toList.drop 24 = dktX10_promise_1 := dk_seg dksX10_promise_0 24 rfl rfl
theorem dksX10_promise_2 : cX10_promise.data.toList.drop 46 = dktX10_promise_2 := dk_seg dksX10_promise_1 22 rfl rfl
theorem dksX10_promise_3 : cX10_promise.data.toList.drop 70 = dktX10_promise_3 := dk_seg dksX10_promise_2 24 rfl rfl
theorem dksX10_promise_4 : cX10_promise.data.toList.drop 94 = dktX10_promise_4 := dk_seg dksX10_promise_3 24 rfl rfl
theorem dksX10_promise_5 : cX10_promise.data.toList.drop 116 = dktX10_promise_5 := dk_seg dksX10_promise_4 22 rfl rfl
theorem dX10_promise_0 : decode cX10_promise 0 = .ok (.aload_n 0, 1) := dk_42 (dk_at dksX10_promise_0 0 rfl rfl)
theorem dX10_promise_1 : decode cX10_promise 1 = .ok (.iload_n 1, 1) := dk_27 (dk_at dksX10_promise_0 1 rfl rfl)
theorem dX10_promise_2 : decode cX10_promise 2 = .ok (.invokevirtual 142, 3) := dk_182 0 142 (dk_at dksX10_promise_0 2 rfl rfl)
theorem dX10_promise_5 : decode cX10_promise 5 = .ok (.ifCond .ne 5, 3) := dk_154 0 5 (dk_at dksX10_promise_0 5 rfl rfl)
theorem dX10_promise_8 : decode cX10_promise 8 = .ok (.iconst (-1), 1) := dk_2 (dk_at dksX10_promise_0 8 rfl rfl)
theorem dX10_promise_9 : decode cX10_promise 9 = .ok (.ireturn, 1) := dk_172 (dk_at dksX10_promise_0 9 rfl rfl)
theorem dX10_promise_10 : decode cX10_promise 10 = .ok (.aload_n 0, 1) := dk_42 (dk_at dksX10_promise_0 10 rfl rfl)
theorem dX10_promise_11 : decode cX10_promise 11 = .ok (.getfield 26, 3) := dk_180 0 26 (dk_at dksX10_promise_0 11 rfl rfl)
theorem dX10_promise_14 : decode cX10_promise 14 = .ok (.iconst 5, 1) := dk_8 (dk_at dksX10_promise_0 14 rfl rfl)
theorem dX10_promise_15 : decode cX10_promise 15 = .ok (.iload_n 1, 1) := dk_27 (dk_at dksX10_promise_0 15 rfl rfl)
theorem dX10_promise_16 : decode cX10_promise 16 = .ok (.imul, 1) := dk_104 (dk_at dksX10_promise_0 16 rfl rfl)
theorem dX10_promise_17 : decode cX10_promise 17 = .ok (.iaload, 1) := dk_46 (dk_at dksX10_promise_0 17 rfl rfl)
theorem dX10_promise_18 : decode cX10_promise 18 = .ok (.istore_n 2, 1) := dk_61 (dk_at dksX10_promise_0 18 rfl rfl)
theorem dX10_promise_19 : decode cX10_promise 19 = .ok (.aload_n 0, 1) := dk_42 (dk_at dksX10_promise_0 19 rfl rfl)
theorem dX10_promise_20 : decode cX10_promise 20 = .ok (.getfield 7, 3) := dk_180 0 7 (dk_at dksX10_promise_0 20 rfl rfl)
theorem dX10_promise_23 : decode cX10_promise 23 = .ok (.iconst 3, 1) := dk_6 (dk_at dksX10_promise_0 23 rfl rfl)
theorem dX10_promise_24 : decode cX10_promise 24 = .ok (.iload_n 1, 1) := dk_27 (dk_at dksX10_promise_1 0 rfl rfl)
theorem dX10_promise_25 : decode cX10_promise 25 = .ok (.iadd, 1) := dk_96 (dk_at dksX10_promise_1 1 rfl rfl)
theorem dX10_promise_26 : decode cX10_promise 26 = .ok (.iaload, 1) := dk_46 (dk_at dksX10_promise_1 2 rfl rfl)
theorem dX10_promise_27 : decode cX10_promise 27 = .ok (.ifCond .ne 22, 3) := dk_154 0 22 (dk_at dksX10_promise_1 3 rfl rfl)
theorem dX10_promise_30 : decode cX10_promise 30 = .ok (.aload_n 0, 1) := dk_42 (dk_at dksX10_promise_1 6 rfl rfl)
theorem dX10_promise_31 : decode cX10_promise 31 = .ok (.getfield 26, 3) := dk_180 0 26 (dk_at dksX10_promise_1 7 rfl rfl)
theorem dX10_promise_34 : decode cX10_promise 34 = .ok (.iconst 5, 1) := dk_8 (dk_at dksX10_promise_1 10 rfl rfl)
theorem dX10_promise_35 : decode cX10_promise 35 = .ok (.iload_n 1, 1) := dk_27 (dk_at dksX10_promise_1 11 rfl rfl)
theorem dX10_promise_36 : decode cX10_promise 36 = .ok (.imul, 1) := dk_104 (dk_at dksX10_promise_1 12 rfl rfl)
theorem dX10_promise_37 : decode cX10_promise 37 = .ok (.iconst 1, 1) := dk_4 (dk_at dksX10_promise_1 13 rfl rfl)
theorem dX10_promise_38 : decode cX10_promise 38 = .ok (.iadd, 1) := dk_96 (dk_at dksX10_promise_1 14 rfl rfl)
theorem dX10_promise_39 : decode cX10_promise 39 = .ok (.iaload, 1) := dk_46 (dk_at dksX10_promise_1 15 rfl rfl)
theorem dX10_promise_40 : decode cX10_promise 40 = .ok (.aload_n 0, 1) := dk_42 (dk_at dksX10_promise_1 16 rfl rfl)
theorem dX10_promise_41 : decode cX10_promise 41 = .ok (.getfield 7, 3) := dk_180 0 7 (dk_at dksX10_promise_1 17 rfl rfl)
theorem dX10_promise_44 : decode cX10_promise 44 = .ok (.iconst 0, 1) := dk_3 (dk_at dksX10_promise_1 20 rfl rfl)
theorem dX10_promise_45 : decode cX10_promise 45 = .ok (.iaload, 1) := dk_46 (dk_at dksX10_promise_1 21 rfl rfl)
theorem dX10_promise_46 : decode cX10_promise 46 = .ok (.if_icmp .eq 6, 3) := dk_159 0 6 (dk_at dksX10_promise_2 0 rfl rfl)
theorem dX10_promise_49 : decode cX10_promise 49 = .ok (.bipush (-2), 2) := dk_16 254 (dk_at dksX10_promise_2 3 rfl rfl)
theorem dX10_promise_51 : decode cX10_promise 51 = .ok (.ireturn, 1) := dk_172 (dk_at dksX10_promise_2 5 rfl rfl)
theorem dX10_promise_52 : decode cX10_promise 52 = .ok (.aload_n 0, 1) := dk_42 (dk_at dksX10_promise_2 6 rfl rfl)
theorem dX10_promise_53 : decode cX10_promise 53 = .ok (.getfield 7, 3) := dk_180 0 7 (dk_at dksX10_promise_2 7 rfl rfl)
theorem dX10_promise_56 : decode cX10_promise 56 = .ok (.bipush 19, 2) := dk_16 19 (dk_at dksX10_promise_2 10 rfl rfl)
theorem dX10_promise_58 : decode cX10_promise 58 = .ok (.iload_n 2, 1) := dk_28 (dk_at dksX10_promise_2 12 rfl rfl)
theorem dX10_promise_59 : decode cX10_promise 59 = .ok (.iadd, 1) := dk_96 (dk_at dksX10_promise_2 13 rfl rfl)
theorem dX10_promise_60 : decode cX10_promise 60 = .ok (.iaload, 1) := dk_46 (dk_at dksX10_promise_2 14 rfl rfl)
theorem dX10_promise_61 : decode cX10_promise 61 = .ok (.aload_n 0, 1) := dk_42 (dk_at dksX10_promise_2 15 rfl rfl)
theorem dX10_promise_62 : decode cX10_promise 62 = .ok (.getfield 17, 3) := dk_180 0 17 (dk_at dksX10_promise_2 16 rfl rfl)
theorem dX10_promise_65 : decode cX10_promise 65 = .ok (.iload_n 2, 1) := dk_28 (dk_at dksX10_promise_2 19 rfl rfl)
theorem dX10_promise_66 : decode cX10_promise 66 = .ok (.iaload, 1) := dk_46 (dk_at dksX10_promise_2 20 rfl rfl)
theorem dX10_promise_67 : decode cX10_promise 67 = .ok (.if_icmp .ne 6, 3) := dk_160 0 6 (dk_at dksX10_promise_2 21 rfl rfl)
theorem dX10_promise_70 : decode cX10_promise 70 = .ok (.bipush (-3), 2) := dk_16 253 (dk_at dksX10_promise_3 0 rfl rfl)
theorem dX10_promise_72 : decode cX10_promise 72 = .ok (.ireturn, 1) := dk_172 (dk_at dksX10_promise_3 2 rfl rfl)
theorem dX10_promise_73 : decode cX10_promise 73 = .ok (.aload_n 0, 1) := dk_42 (dk_at dksX10_promise_3 3 rfl rfl)
theorem dX10_promise_74 : decode cX10_promise 74 = .ok (.iload_n 2, 1) := dk_28 (dk_at dksX10_promise_3 4 rfl rfl)
theorem dX10_promise_75 : decode cX10_promise 75 = .ok (.aload_n 0, 1) := dk_42 (dk_at dksX10_promise_3 5 rfl rfl)
theorem dX10_promise_76 : decode cX10_promise 76 = .ok (.getfield 7, 3) := dk_180 0 7 (dk_at dksX10_promise_3 6 rfl rfl)
theorem dX10_promise_79 : decode cX10_promise 79 = .ok (.bipush 19, 2) := dk_16 19 (dk_at dksX10_promise_3 9 rfl rfl)
theorem dX10_promise_81 : decode cX10_promise 81 = .ok (.iload_n 2, 1) := dk_28 (dk_at dksX10_promise_3 11 rfl rfl)
theorem dX10_promise_82 : decode cX10_promise 82 = .ok (.iadd, 1) := dk_96 (dk_at dksX10_promise_3 12 rfl rfl)
theorem dX10_promise_83 : decode cX10_promise 83 = .ok (.iaload, 1) := dk_46 (dk_at dksX10_promise_3 13 rfl rfl)
theorem dX10_promise_84 : decode cX10_promise 84 = .ok (.iload_n 1, 1) := dk_27 (dk_at dksX10_promise_3 14 rfl rfl)
theorem dX10_promise_85 : decode cX10_promise 85 = .ok (.invokevirtual 154, 3) := dk_182 0 154 (dk_at dksX10_promise_3 15 rfl rfl)
theorem dX10_promise_88 : decode cX10_promise 88 = .ok (.aload_n 0, 1) := dk_42 (dk_at dksX10_promise_3 18 rfl rfl)
theorem dX10_promise_89 : decode cX10_promise 89 = .ok (.getfield 7, 3) := dk_180 0 7 (dk_at dksX10_promise_3 19 rfl rfl)
theorem dX10_promise_92 : decode cX10_promise 92 = .ok (.bipush 11, 2) := dk_16 11 (dk_at dksX10_promise_3 22 rfl rfl)
theorem dX10_promise_94 : decode cX10_promise 94 = .ok (.iload_n 1, 1) := dk_27 (dk_at dksX10_promise_4 0 rfl rfl)
theorem dX10_promise_95 : decode cX10_promise 95 = .ok (.iadd, 1) := dk_96 (dk_at dksX10_promise_4 1 rfl rfl)
theorem dX10_promise_96 : decode cX10_promise 96 = .ok (.aload_n 0, 1) := dk_42 (dk_at dksX10_promise_4 2 rfl rfl)
theorem dX10_promise_97 : decode cX10_promise 97 = .ok (.getfield 26, 3) := dk_180 0 26 (dk_at dksX10_promise_4 3 rfl rfl)
theorem dX10_promise_100 : decode cX10_promise 100 = .ok (.iconst 5, 1) := dk_8 (dk_at dksX10_promise_4 6 rfl rfl)
theorem dX10_promise_101 : decode cX10_promise 101 = .ok (.iload_n 1, 1) := dk_27 (dk_at dksX10_promise_4 7 rfl rfl)
theorem dX10_promise_102 : decode cX10_promise 102 = .ok (.imul, 1) := dk_104 (dk_at dksX10_promise_4 8 rfl rfl)
theorem dX10_promise_103 : decode cX10_promise 103 = .ok (.iconst 2, 1) := dk_5 (dk_at dksX10_promise_4 9 rfl rfl)
theorem dX10_promise_104 : decode cX10_promise 104 = .ok (.iadd, 1) := dk_96 (dk_at dksX10_promise_4 10 rfl rfl)
theorem dX10_promise_105 : decode cX10_promise 105 = .ok (.iaload, 1) := dk_46 (dk_at dksX10_promise_4 11 rfl rfl)
theorem dX10_promise_106 : decode cX10_promise 106 = .ok (.iastore, 1) := dk_79 (dk_at dksX10_promise_4 12 rfl rfl)
theorem dX10_promise_107 : decode cX10_promise 107 = .ok (.aload_n 0, 1) := dk_42 (dk_at dksX10_promise_4 13 rfl rfl)
theorem dX10_promise_108 : decode cX10_promise 108 = .ok (.iconst 0, 1) := dk_3 (dk_at dksX10_promise_4 14 rfl rfl)
theorem dX10_promise_109 : decode cX10_promise 109 = .ok (.iload_n 1, 1) := dk_27 (dk_at dksX10_promise_4 15 rfl rfl)
theorem dX10_promise_110 : decode cX10_promise 110 = .ok (.iload_n 2, 1) := dk_28 (dk_at dksX10_promise_4 16 rfl rfl)
theorem dX10_promise_111 : decode cX10_promise 111 = .ok (.iconst 0, 1) := dk_3 (dk_at dksX10_promise_4 17 rfl rfl)
theorem dX10_promise_112 : decode cX10_promise 112 = .ok (.invokevirtual 158, 3) := dk_182 0 158 (dk_at dksX10_promise_4 18 rfl rfl)
theorem dX10_promise_115 : decode cX10_promise 115 = .ok (.aload_n 0, 1) := dk_42 (dk_at dksX10_promise_4 21 rfl rfl)
theorem dX10_promise_116 : decode cX10_promise 116 = .ok (.getfield 7, 3) := dk_180 0 7 (dk_at dksX10_promise_5 0 rfl rfl)
theorem dX10_promise_119 : decode cX10_promise 119 = .ok (.bipush 19, 2) := dk_16 19 (dk_at dksX10_promise_5 3 rfl rfl)
theorem dX10_promise_121 : decode cX10_promise 121 = .ok (.iload_n 2, 1) := dk_28 (dk_at dksX10_promise_5 5 rfl rfl)
theorem dX10_promise_122 : decode cX10_promise 122 = .ok (.iadd, 1) := dk_96 (dk_at dksX10_promise_5 6 rfl rfl)
theorem dX10_promise_123 : decode cX10_promise 123 = .ok (.iaload, 1) := dk_46 (dk_at dksX10_promise_5 7 rfl rfl)
theorem dX10_promise_124 : decode cX10_promise 124 = .ok (.ireturn, 1) := dk_172 (dk_at dksX10_promise_5 8 rfl rfl)
abbrev cX10_insert : ByteArray := prog_14_method_20_code
def yX10_insert : MethodName := ⟨RX10, "insert", "(III)V"⟩
def dkwX10_insert_3 : List UInt8 := [16, 19, 27, 96, 92, 46, 4, 96, 79, 42, 180, 0, 7, 6, 29, 96, 4, 79, 177]
abbrev dktX10_insert_3 : List UInt8 := dkwX10_insert_3 ++ []
def dkwX10_insert_2 : List UInt8 := [132, 4, 255, 167, 255, 217, 42, 180, 0, 7, 16, 23, 8, 27, 104, 96, 28, 96, 29, 79, 42, 180, 0, 7]
abbrev dktX10_insert_2 : List UInt8 := dkwX10_insert_2 ++ dktX10_insert_3
def dkwX10_insert_1 : List UInt8 := [27, 104, 96, 21, 4, 96, 42, 180, 0, 7, 16, 23, 8, 27, 104, 96, 21, 4, 96, 4, 100, 46, 79]
abbrev dktX10_insert_1 : List UInt8 := dkwX10_insert_1 ++ dktX10_insert_2
def dkwX10_insert_0 : List UInt8 := [42, 180, 0, 7, 16, 19, 27, 96, 46, 54, 4, 21, 4, 28, 164, 0, 39, 42, 180, 0, 7, 16, 23, 8]
abbrev dktX10_insert_0 : List UInt8 := dkwX10_insert_0 ++ dktX10_insert_1
theorem dksX10_insert_0 : cX10_insert.data.toList.drop 0 = dktX10_insert_0 := by decide +kernel
theorem dksX10_insert_1 : cX10_insert.data.toList.drop 24 = dktX10_insert_1 := dk_seg dksX10_insert_0 24 rfl rfl
theorem dksX10_insert_2 : cX10_insert.data.toList.drop 47 = dktX10_insert_2 := dk_seg dksX10_insert_1 23 rfl rfl
theorem dksX10_insert_3 : cX10_insert.data.toList.drop 71 = dktX10_insert_3 := dk_seg dksX10_insert_2 24 rfl rfl
theorem dX10_insert_0 : decode cX10_insert 0 = .ok (.aload_n 0, 1) := dk_42 (dk_at dksX10_insert_0 0 rfl rfl)
theorem dX10_insert_1 : decode cX10_insert 1 = .ok (.getfield 7, 3) := dk_180 0 7 (dk_at dksX10_insert_0 1 rfl rfl)
theorem dX10_insert_4 : decode cX10_insert 4 = .ok (.bipush 19, 2) := dk_16 19 (dk_at dksX10_insert_0 4 rfl rfl)
theorem dX10_insert_6 : decode cX10_insert 6 = .ok (.iload_n 1, 1) := dk_27 (dk_at dksX10_insert_0 6 rfl rfl)
theorem dX10_insert_7 : decode cX10_insert 7 = .ok (.iadd, 1) := dk_96 (dk_at dksX10_insert_0 7 rfl rfl)
theorem dX10_insert_8 : decode cX10_insert 8 = .ok (.iaload, 1) := dk_46 (dk_at dksX10_insert_0 8 rfl rfl)
theorem dX10_insert_9 : decode cX10_insert 9 = .ok (.istore 4, 2) := dk_54 4 (dk_at dksX10_insert_0 9 rfl rfl)
theorem dX10_insert_11 : decode cX10_insert 11 = .ok (.iload 4, 2) := dk_21 4 (dk_at dksX10_insert_0 11 rfl rfl)
theorem dX10_insert_13 : decode cX10_insert 13 = .ok (.iload_n 2, 1) := dk_28 (dk_at dksX10_insert_0 13 rfl rfl)
theorem dX10_insert_14 : decode cX10_insert 14 = .ok (.if_icmp .le 39, 3) := dk_164 0 39 (dk_at dksX10_insert_0 14 rfl rfl)
theorem dX10_insert_17 : decode cX10_insert 17 = .ok (.aload_n 0, 1) := dk_42 (dk_at dksX10_insert_0 17 rfl rfl)
theorem dX10_insert_18 : decode cX10_insert 18 = .ok (.getfield 7, 3) := dk_180 0 7 (dk_at dksX10_insert_0 18 rfl rfl)
theorem dX10_insert_21 : decode cX10_insert 21 = .ok (.bipush 23, 2) := dk_16 23 (dk_at dksX10_insert_0 21 rfl rfl)
theorem dX10_insert_23 : decode cX10_insert 23 = .ok (.iconst 5, 1) := dk_8 (dk_at dksX10_insert_0 23 rfl rfl)
theorem dX10_insert_24 : decode cX10_insert 24 = .ok (.iload_n 1, 1) := dk_27 (dk_at dksX10_insert_1 0 rfl rfl)
theorem dX10_insert_25 : decode cX10_insert 25 = .ok (.imul, 1) := dk_104 (dk_at dksX10_insert_1 1 rfl rfl)
theorem dX10_insert_26 : decode cX10_insert 26 = .ok (.iadd, 1) := dk_96 (dk_at dksX10_insert_1 2 rfl rfl)
theorem dX10_insert_27 : decode cX10_insert 27 = .ok (.iload 4, 2) := dk_21 4 (dk_at dksX10_insert_1 3 rfl rfl)
theorem dX10_insert_29 : decode cX10_insert 29 = .ok (.iadd, 1) := dk_96 (dk_at dksX10_insert_1 5 rfl rfl)
theorem dX10_insert_30 : decode cX10_insert 30 = .ok (.aload_n 0, 1) := dk_42 (dk_at dksX10_insert_1 6 rfl rfl)
theorem dX10_insert_31 : decode cX10_insert 31 = .ok (.getfield 7, 3) := dk_180 0 7 (dk_at dksX10_insert_1 7 rfl rfl)
theorem dX10_insert_34 : decode cX10_insert 34 = .ok (.bipush 23, 2) := dk_16 23 (dk_at dksX10_insert_1 10 rfl rfl)
theorem dX10_insert_36 : decode cX10_insert 36 = .ok (.iconst 5, 1) := dk_8 (dk_at dksX10_insert_1 12 rfl rfl)
theorem dX10_insert_37 : decode cX10_insert 37 = .ok (.iload_n 1, 1) := dk_27 (dk_at dksX10_insert_1 13 rfl rfl)
theorem dX10_insert_38 : decode cX10_insert 38 = .ok (.imul, 1) := dk_104 (dk_at dksX10_insert_1 14 rfl rfl)
theorem dX10_insert_39 : decode cX10_insert 39 = .ok (.iadd, 1) := dk_96 (dk_at dksX10_insert_1 15 rfl rfl)
theorem dX10_insert_40 : decode cX10_insert 40 = .ok (.iload 4, 2) := dk_21 4 (dk_at dksX10_insert_1 16 rfl rfl)
theorem dX10_insert_42 : decode cX10_insert 42 = .ok (.iadd, 1) := dk_96 (dk_at dksX10_insert_1 18 rfl rfl)
theorem dX10_insert_43 : decode cX10_insert 43 = .ok (.iconst 1, 1) := dk_4 (dk_at dksX10_insert_1 19 rfl rfl)
theorem dX10_insert_44 : decode cX10_insert 44 = .ok (.isub, 1) := dk_100 (dk_at dksX10_insert_1 20 rfl rfl)
theorem dX10_insert_45 : decode cX10_insert 45 = .ok (.iaload, 1) := dk_46 (dk_at dksX10_insert_1 21 rfl rfl)
theorem dX10_insert_46 : decode cX10_insert 46 = .ok (.iastore, 1) := dk_79 (dk_at dksX10_insert_1 22 rfl rfl)
theorem dX10_insert_47 : decode cX10_insert 47 = .ok (.iinc 4 (-1), 3) := dk_132 4 255 (dk_at dksX10_insert_2 0 rfl rfl)
theorem dX10_insert_50 : decode cX10_insert 50 = .ok (.goto (-39), 3) := dk_167 255 217 (dk_at dksX10_insert_2 3 rfl rfl)
theorem dX10_insert_53 : decode cX10_insert 53 = .ok (.aload_n 0, 1) := dk_42 (dk_at dksX10_insert_2 6 rfl rfl)
theorem dX10_insert_54 : decode cX10_insert 54 = .ok (.getfield 7, 3) := dk_180 0 7 (dk_at dksX10_insert_2 7 rfl rfl)
theorem dX10_insert_57 : decode cX10_insert 57 = .ok (.bipush 23, 2) := dk_16 23 (dk_at dksX10_insert_2 10 rfl rfl)
theorem dX10_insert_59 : decode cX10_insert 59 = .ok (.iconst 5, 1) := dk_8 (dk_at dksX10_insert_2 12 rfl rfl)
theorem dX10_insert_60 : decode cX10_insert 60 = .ok (.iload_n 1, 1) := dk_27 (dk_at dksX10_insert_2 13 rfl rfl)
theorem dX10_insert_61 : decode cX10_insert 61 = .ok (.imul, 1) := dk_104 (dk_at dksX10_insert_2 14 rfl rfl)
theorem dX10_insert_62 : decode cX10_insert 62 = .ok (.iadd, 1) := dk_96 (dk_at dksX10_insert_2 15 rfl rfl)
theorem dX10_insert_63 : decode cX10_insert 63 = .ok (.iload_n 2, 1) := dk_28 (dk_at dksX10_insert_2 16 rfl rfl)
theorem dX10_insert_64 : decode cX10_insert 64 = .ok (.iadd, 1) := dk_96 (dk_at dksX10_insert_2 17 rfl rfl)
theorem dX10_insert_65 : decode cX10_insert 65 = .ok (.iload_n 3, 1) := dk_29 (dk_at dksX10_insert_2 18 rfl rfl)
theorem dX10_insert_66 : decode cX10_insert 66 = .ok (.iastore, 1) := dk_79 (dk_at dksX10_insert_2 19 rfl rfl)
theorem dX10_insert_67 : decode cX10_insert 67 = .ok (.aload_n 0, 1) := dk_42 (dk_at dksX10_insert_2 20 rfl rfl)
theorem dX10_insert_68 : decode cX10_insert 68 = .ok (.getfield 7, 3) := dk_180 0 7 (dk_at dksX10_insert_2 21 rfl rfl)
theorem dX10_insert_71 : decode cX10_insert 71 = .ok (.bipush 19, 2) := dk_16 19 (dk_at dksX10_insert_3 0 rfl rfl)
theorem dX10_insert_73 : decode cX10_insert 73 = .ok (.iload_n 1, 1) := dk_27 (dk_at dksX10_insert_3 2 rfl rfl)
theorem dX10_insert_74 : decode cX10_insert 74 = .ok (.iadd, 1) := dk_96 (dk_at dksX10_insert_3 3 rfl rfl)
theorem dX10_insert_75 : decode cX10_insert 75 = .ok (.dup2, 1) := dk_92 (dk_at dksX10_insert_3 4 rfl rfl)
theorem dX10_insert_76 : decode cX10_insert 76 = .ok (.iaload, 1) := dk_46 (dk_at dksX10_insert_3 5 rfl rfl)
theorem dX10_insert_77 : decode cX10_insert 77 = .ok (.iconst 1, 1) := dk_4 (dk_at dksX10_insert_3 6 rfl rfl)
theorem dX10_insert_78 : decode cX10_insert 78 = .ok (.iadd, 1) := dk_96 (dk_at dksX10_insert_3 7 rfl rfl)
theorem dX10_insert_79 : decode cX10_insert 79 = .ok (.iastore, 1) := dk_79 (dk_at dksX10_insert_3 8 rfl rfl)
theorem dX10_insert_80 : decode cX10_insert 80 = .ok (.aload_n 0, 1) := dk_42 (dk_at dksX10_insert_3 9 rfl rfl)
theorem dX10_insert_81 : decode cX10_insert 81 = .ok (.getfield 7, 3) := dk_180 0 7 (dk_at dksX10_insert_3 10 rfl rfl)
theorem dX10_insert_84 : decode cX10_insert 84 = .ok (.iconst 3, 1) := dk_6 (dk_at dksX10_insert_3 13 rfl rfl)
theorem dX10_insert_85 : decode cX10_insert 85 = .ok (.iload_n 3, 1) := dk_29 (dk_at dksX10_insert_3 14 rfl rfl)
theorem dX10_insert_86 : decode cX10_insert 86 = .ok (.iadd, 1) := dk_96 (dk_at dksX10_insert_3 15 rfl rfl)
theorem dX10_insert_87 : decode cX10_insert 87 = .ok (.iconst 1, 1) := dk_4 (dk_at dksX10_insert_3 16 rfl rfl)
theorem dX10_insert_88 : decode cX10_insert 88 = .ok (.iastore, 1) := dk_79 (dk_at dksX10_insert_3 17 rfl rfl)
theorem dX10_insert_89 : decode cX10_insert 89 = .ok (.return_, 1) := dk_177 (dk_at dksX10_insert_3 18 rfl rfl)
abbrev cX10_minds : ByteArray := prog_14_method_23_code
def yX10_minds : MethodName := ⟨RX10, "minds", "(IIII)V"⟩
def dkwX10_minds_5 : List UInt8 := [16, 43, 92, 46, 4, 96, 79, 177]
abbrev dktX10_minds_5 : List UInt8 := dkwX10_minds_5 ++ []
def dkwX10_minds_4 : List UInt8 := [180, 0, 7, 21, 5, 5, 96, 29, 79, 42, 180, 0, 7, 21, 5, 6, 96, 21, 4, 79, 42, 180, 0, 7]
abbrev dktX10_minds_4 : List UInt8 := dkwX10_minds_4 ++ dktX10_minds_5
def dkwX10_minds_3 : List UInt8 := [104, 96, 54, 5, 42, 180, 0, 7, 21, 5, 27, 79, 42, 180, 0, 7, 21, 5, 4, 96, 28, 79, 42]
abbrev dktX10_minds_3 : List UInt8 := dkwX10_minds_3 ++ dktX10_minds_4
def dkwX10_minds_2 : List UInt8 := [167, 255, 224, 42, 180, 0, 7, 16, 43, 92, 46, 4, 100, 79, 16, 44, 7, 42, 180, 0, 7, 16, 43, 46]
abbrev dktX10_minds_2 : List UInt8 := dkwX10_minds_2 ++ dktX10_minds_3
def dkwX10_minds_1 : List UInt8 := [180, 0, 7, 16, 44, 21, 5, 96, 42, 180, 0, 7, 16, 44, 21, 5, 96, 7, 96, 46, 79, 132, 5, 1]
abbrev dktX10_minds_1 : List UInt8 := dkwX10_minds_1 ++ dktX10_minds_2
def dkwX10_minds_0 : List UInt8 := [42, 180, 0, 7, 16, 43, 46, 16, 12, 160, 0, 52, 3, 54, 5, 21, 5, 16, 44, 162, 0, 31, 42]
abbrev dktX10_minds_0 : List UInt8 := dkwX10_minds_0 ++ dktX10_minds_1
theorem dksX10_minds_0 : cX10_minds.data.toList.drop 0 = dktX10_minds_0 := by decide +kernel
theorem dksX10_minds_1 : cX10_minds.data.toList.drop 23 = dktX10_minds_1 := dk_seg dksX10_minds_0 23 rfl rfl
theorem dksX10_minds_2 : cX10_minds.data.toList.drop 47 = dktX10_minds_2 := dk_seg dksX10_minds_1 24 rfl rfl
theorem dksX10_minds_3 : cX10_minds.data.toList.drop 71 = dktX10_minds_3 := dk_seg dksX10_minds_2 24 rfl rfl
theorem dksX10_minds_4 : cX10_minds.data.toList.drop 94 = dktX10_minds_4 := dk_seg dksX10_minds_3 23 rfl rfl
theorem dksX10_minds_5 : cX10_minds.data.toList.drop 118 = dktX10_minds_5 := dk_seg dksX10_minds_4 24 rfl rfl
theorem dX10_minds_0 : decode cX10_minds 0 = .ok (.aload_n 0, 1) := dk_42 (dk_at dksX10_minds_0 0 rfl rfl)
theorem dX10_minds_1 : decode cX10_minds 1 = .ok (.getfield 7, 3) := dk_180 0 7 (dk_at dksX10_minds_0 1 rfl rfl)
theorem dX10_minds_4 : decode cX10_minds 4 = .ok (.bipush 43, 2) := dk_16 43 (dk_at dksX10_minds_0 4 rfl rfl)
theorem dX10_minds_6 : decode cX10_minds 6 = .ok (.iaload, 1) := dk_46 (dk_at dksX10_minds_0 6 rfl rfl)
theorem dX10_minds_7 : decode cX10_minds 7 = .ok (.bipush 12, 2) := dk_16 12 (dk_at dksX10_minds_0 7 rfl rfl)
theorem dX10_minds_9 : decode cX10_minds 9 = .ok (.if_icmp .ne 52, 3) := dk_160 0 52 (dk_at dksX10_minds_0 9 rfl rfl)
theorem dX10_minds_12 : decode cX10_minds 12 = .ok (.iconst 0, 1) := dk_3 (dk_at dksX10_minds_0 12 rfl rfl)
theorem dX10_minds_13 : decode cX10_minds 13 = .ok (.istore 5, 2) := dk_54 5 (dk_at dksX10_minds_0 13 rfl rfl)
theorem dX10_minds_15 : decode cX10_minds 15 = .ok (.iload 5, 2) := dk_21 5 (dk_at dksX10_minds_0 15 rfl rfl)
theorem dX10_minds_17 : decode cX10_minds 17 = .ok (.bipush 44, 2) := dk_16 44 (dk_at dksX10_minds_0 17 rfl rfl)
theorem dX10_minds_19 : decode cX10_minds 19 = .ok (.if_icmp .ge 31, 3) := dk_162 0 31 (dk_at dksX10_minds_0 19 rfl rfl)
theorem dX10_minds_22 : decode cX10_minds 22 = .ok (.aload_n 0, 1) := dk_42 (dk_at dksX10_minds_0 22 rfl rfl)
theorem dX10_minds_23 : decode cX10_minds 23 = .ok (.getfield 7, 3) := dk_180 0 7 (dk_at dksX10_minds_1 0 rfl rfl)
theorem dX10_minds_26 : decode cX10_minds 26 = .ok (.bipush 44, 2) := dk_16 44 (dk_at dksX10_minds_1 3 rfl rfl)
theorem dX10_minds_28 : decode cX10_minds 28 = .ok (.iload 5, 2) := dk_21 5 (dk_at dksX10_minds_1 5 rfl rfl)
theorem dX10_minds_30 : decode cX10_minds 30 = .ok (.iadd, 1) := dk_96 (dk_at dksX10_minds_1 7 rfl rfl)
theorem dX10_minds_31 : decode cX10_minds 31 = .ok (.aload_n 0, 1) := dk_42 (dk_at dksX10_minds_1 8 rfl rfl)
theorem dX10_minds_32 : decode cX10_minds 32 = .ok (.getfield 7, 3) := dk_180 0 7 (dk_at dksX10_minds_1 9 rfl rfl)
theorem dX10_minds_35 : decode cX10_minds 35 = .ok (.bipush 44, 2) := dk_16 44 (dk_at dksX10_minds_1 12 rfl rfl)
theorem dX10_minds_37 : decode cX10_minds 37 = .ok (.iload 5, 2) := dk_21 5 (dk_at dksX10_minds_1 14 rfl rfl)
theorem dX10_minds_39 : decode cX10_minds 39 = .ok (.iadd, 1) := dk_96 (dk_at dksX10_minds_1 16 rfl rfl)
theorem dX10_minds_40 : decode cX10_minds 40 = .ok (.iconst 4, 1) := dk_7 (dk_at dksX10_minds_1 17 rfl rfl)
theorem dX10_minds_41 : decode cX10_minds 41 = .ok (.iadd, 1) := dk_96 (dk_at dksX10_minds_1 18 rfl rfl)
theorem dX10_minds_42 : decode cX10_minds 42 = .ok (.iaload, 1) := dk_46 (dk_at dksX10_minds_1 19 rfl rfl)
theorem dX10_minds_43 : decode cX10_minds 43 = .ok (.iastore, 1) := dk_79 (dk_at dksX10_minds_1 20 rfl rfl)
theorem dX10_minds_44 : decode cX10_minds 44 = .ok (.iinc 5 1, 3) := dk_132 5 1 (dk_at dksX10_minds_1 21 rfl rfl)
theorem dX10_minds_47 : decode cX10_minds 47 = .ok (.goto (-32), 3) := dk_167 255 224 (dk_at dksX10_minds_2 0 rfl rfl)
theorem dX10_minds_50 : decode cX10_minds 50 = .ok (.aload_n 0, 1) := dk_42 (dk_at dksX10_minds_2 3 rfl rfl)
theorem dX10_minds_51 : decode cX10_minds 51 = .ok (.getfield 7, 3) := dk_180 0 7 (dk_at dksX10_minds_2 4 rfl rfl)
theorem dX10_minds_54 : decode cX10_minds 54 = .ok (.bipush 43, 2) := dk_16 43 (dk_at dksX10_minds_2 7 rfl rfl)
theorem dX10_minds_56 : decode cX10_minds 56 = .ok (.dup2, 1) := dk_92 (dk_at dksX10_minds_2 9 rfl rfl)
theorem dX10_minds_57 : decode cX10_minds 57 = .ok (.iaload, 1) := dk_46 (dk_at dksX10_minds_2 10 rfl rfl)
theorem dX10_minds_58 : decode cX10_minds 58 = .ok (.iconst 1, 1) := dk_4 (dk_at dksX10_minds_2 11 rfl rfl)
theorem dX10_minds_59 : decode cX10_minds 59 = .ok (.isub, 1) := dk_100 (dk_at dksX10_minds_2 12 rfl rfl)
theorem dX10_minds_60 : decode cX10_minds 60 = .ok (.iastore, 1) := dk_79 (dk_at dksX10_minds_2 13 rfl rfl)
theorem dX10_minds_61 : decode cX10_minds 61 = .ok (.bipush 44, 2) := dk_16 44 (dk_at dksX10_minds_2 14 rfl rfl)
theorem dX10_minds_63 : decode cX10_minds 63 = .ok (.iconst 4, 1) := dk_7 (dk_at dksX10_minds_2 16 rfl rfl)
theorem dX10_minds_64 : decode cX10_minds 64 = .ok (.aload_n 0, 1) := dk_42 (dk_at dksX10_minds_2 17 rfl rfl)
theorem dX10_minds_65 : decode cX10_minds 65 = .ok (.getfield 7, 3) := dk_180 0 7 (dk_at dksX10_minds_2 18 rfl rfl)
theorem dX10_minds_68 : decode cX10_minds 68 = .ok (.bipush 43, 2) := dk_16 43 (dk_at dksX10_minds_2 21 rfl rfl)
theorem dX10_minds_70 : decode cX10_minds 70 = .ok (.iaload, 1) := dk_46 (dk_at dksX10_minds_2 23 rfl rfl)
theorem dX10_minds_71 : decode cX10_minds 71 = .ok (.imul, 1) := dk_104 (dk_at dksX10_minds_3 0 rfl rfl)
theorem dX10_minds_72 : decode cX10_minds 72 = .ok (.iadd, 1) := dk_96 (dk_at dksX10_minds_3 1 rfl rfl)
theorem dX10_minds_73 : decode cX10_minds 73 = .ok (.istore 5, 2) := dk_54 5 (dk_at dksX10_minds_3 2 rfl rfl)
theorem dX10_minds_75 : decode cX10_minds 75 = .ok (.aload_n 0, 1) := dk_42 (dk_at dksX10_minds_3 4 rfl rfl)
theorem dX10_minds_76 : decode cX10_minds 76 = .ok (.getfield 7, 3) := dk_180 0 7 (dk_at dksX10_minds_3 5 rfl rfl)
theorem dX10_minds_79 : decode cX10_minds 79 = .ok (.iload 5, 2) := dk_21 5 (dk_at dksX10_minds_3 8 rfl rfl)
theorem dX10_minds_81 : decode cX10_minds 81 = .ok (.iload_n 1, 1) := dk_27 (dk_at dksX10_minds_3 10 rfl rfl)
theorem dX10_minds_82 : decode cX10_minds 82 = .ok (.iastore, 1) := dk_79 (dk_at dksX10_minds_3 11 rfl rfl)
theorem dX10_minds_83 : decode cX10_minds 83 = .ok (.aload_n 0, 1) := dk_42 (dk_at dksX10_minds_3 12 rfl rfl)
theorem dX10_minds_84 : decode cX10_minds 84 = .ok (.getfield 7, 3) := dk_180 0 7 (dk_at dksX10_minds_3 13 rfl rfl)
theorem dX10_minds_87 : decode cX10_minds 87 = .ok (.iload 5, 2) := dk_21 5 (dk_at dksX10_minds_3 16 rfl rfl)
theorem dX10_minds_89 : decode cX10_minds 89 = .ok (.iconst 1, 1) := dk_4 (dk_at dksX10_minds_3 18 rfl rfl)
theorem dX10_minds_90 : decode cX10_minds 90 = .ok (.iadd, 1) := dk_96 (dk_at dksX10_minds_3 19 rfl rfl)
theorem dX10_minds_91 : decode cX10_minds 91 = .ok (.iload_n 2, 1) := dk_28 (dk_at dksX10_minds_3 20 rfl rfl)
theorem dX10_minds_92 : decode cX10_minds 92 = .ok (.iastore, 1) := dk_79 (dk_at dksX10_minds_3 21 rfl rfl)
theorem dX10_minds_93 : decode cX10_minds 93 = .ok (.aload_n 0, 1) := dk_42 (dk_at dksX10_minds_3 22 rfl rfl)
theorem dX10_minds_94 : decode cX10_minds 94 = .ok (.getfield 7, 3) := dk_180 0 7 (dk_at dksX10_minds_4 0 rfl rfl)
theorem dX10_minds_97 : decode cX10_minds 97 = .ok (.iload 5, 2) := dk_21 5 (dk_at dksX10_minds_4 3 rfl rfl)
theorem dX10_minds_99 : decode cX10_minds 99 = .ok (.iconst 2, 1) := dk_5 (dk_at dksX10_minds_4 5 rfl rfl)
theorem dX10_minds_100 : decode cX10_minds 100 = .ok (.iadd, 1) := dk_96 (dk_at dksX10_minds_4 6 rfl rfl)
theorem dX10_minds_101 : decode cX10_minds 101 = .ok (.iload_n 3, 1) := dk_29 (dk_at dksX10_minds_4 7 rfl rfl)
theorem dX10_minds_102 : decode cX10_minds 102 = .ok (.iastore, 1) := dk_79 (dk_at dksX10_minds_4 8 rfl rfl)
theorem dX10_minds_103 : decode cX10_minds 103 = .ok (.aload_n 0, 1) := dk_42 (dk_at dksX10_minds_4 9 rfl rfl)
theorem dX10_minds_104 : decode cX10_minds 104 = .ok (.getfield 7, 3) := dk_180 0 7 (dk_at dksX10_minds_4 10 rfl rfl)
theorem dX10_minds_107 : decode cX10_minds 107 = .ok (.iload 5, 2) := dk_21 5 (dk_at dksX10_minds_4 13 rfl rfl)
theorem dX10_minds_109 : decode cX10_minds 109 = .ok (.iconst 3, 1) := dk_6 (dk_at dksX10_minds_4 15 rfl rfl)
theorem dX10_minds_110 : decode cX10_minds 110 = .ok (.iadd, 1) := dk_96 (dk_at dksX10_minds_4 16 rfl rfl)
theorem dX10_minds_111 : decode cX10_minds 111 = .ok (.iload 4, 2) := dk_21 4 (dk_at dksX10_minds_4 17 rfl rfl)
theorem dX10_minds_113 : decode cX10_minds 113 = .ok (.iastore, 1) := dk_79 (dk_at dksX10_minds_4 19 rfl rfl)
theorem dX10_minds_114 : decode cX10_minds 114 = .ok (.aload_n 0, 1) := dk_42 (dk_at dksX10_minds_4 20 rfl rfl)
theorem dX10_minds_115 : decode cX10_minds 115 = .ok (.getfield 7, 3) := dk_180 0 7 (dk_at dksX10_minds_4 21 rfl rfl)
theorem dX10_minds_118 : decode cX10_minds 118 = .ok (.bipush 43, 2) := dk_16 43 (dk_at dksX10_minds_5 0 rfl rfl)
theorem dX10_minds_120 : decode cX10_minds 120 = .ok (.dup2, 1) := dk_92 (dk_at dksX10_minds_5 2 rfl rfl)
theorem dX10_minds_121 : decode cX10_minds 121 = .ok (.iaload, 1) := dk_46 (dk_at dksX10_minds_5 3 rfl rfl)
theorem dX10_minds_122 : decode cX10_minds 122 = .ok (.iconst 1, 1) := dk_4 (dk_at dksX10_minds_5 4 rfl rfl)
theorem dX10_minds_123 : decode cX10_minds 123 = .ok (.iadd, 1) := dk_96 (dk_at dksX10_minds_5 5 rfl rfl)
theorem dX10_minds_124 : decode cX10_minds 124 = .ok (.iastore, 1) := dk_79 (dk_at dksX10_minds_5 6 rfl rfl)
theorem dX10_minds_125 : decode cX10_minds 125 = .ok (.return_, 1) := dk_177 (dk_at dksX10_minds_5 7 rfl rfl)
abbrev cX10_letOff : ByteArray := prog_14_method_25_code
def yX10_letOff : MethodName := ⟨RX10, "letOff", "(I)I"⟩
def dkwX10_letOff_2 : List UInt8 := [182, 0, 162, 42, 180, 0, 7, 6, 27, 96, 6, 79, 42, 180, 0, 7, 16, 11, 27, 96, 46, 172]
abbrev dktX10_letOff_2 : List UInt8 := dkwX10_letOff_2 ++ []
def dkwX10_letOff_1 : List UInt8 := [172, 42, 27, 182, 0, 147, 61, 42, 4, 27, 28, 42, 28, 27, 182, 0, 151, 182, 0, 158, 42, 28, 27]
abbrev dktX10_letOff_1 : List UInt8 := dkwX10_letOff_1 ++ dktX10_letOff_2
def dkwX10_letOff_0 : List UInt8 := [42, 27, 182, 0, 142, 154, 0, 5, 2, 172, 42, 180, 0, 7, 6, 27, 96, 46, 4, 159, 0, 6, 16, 254]
abbrev dktX10_letOff_0 : List UInt8 := dkwX10_letOff_0 ++ dktX10_letOff_1
theorem dksX10_letOff_0 : cX10_letOff.data.toList.drop 0 = dktX10_letOff_0 := by decide +kernel
theorem dksX10_letOff_1 : cX10_letOff.data.toList.drop 24 = dktX10_letOff_1 := dk_seg dksX10_letOff_0 24 rfl rfl
theorem dksX10_letOff_2 : cX10_letOff.data.toList.drop 47 = dktX10_letOff_2 := dk_seg dksX10_letOff_1 23 rfl rfl
theorem dX10_letOff_0 : decode cX10_letOff 0 = .ok (.aload_n 0, 1) := dk_42 (dk_at dksX10_letOff_0 0 rfl rfl)
theorem dX10_letOff_1 : decode cX10_letOff 1 = .ok (.iload_n 1, 1) := dk_27 (dk_at dksX10_letOff_0 1 rfl rfl)
theorem dX10_letOff_2 : decode cX10_letOff 2 = .ok (.invokevirtual 142, 3) := dk_182 0 142 (dk_at dksX10_letOff_0 2 rfl rfl)
theorem dX10_letOff_5 : decode cX10_letOff 5 = .ok (.ifCond .ne 5, 3) := dk_154 0 5 (dk_at dksX10_letOff_0 5 rfl rfl)
theorem dX10_letOff_8 : decode cX10_letOff 8 = .ok (.iconst (-1), 1) := dk_2 (dk_at dksX10_letOff_0 8 rfl rfl)
theorem dX10_letOff_9 : decode cX10_letOff 9 = .ok (.ireturn, 1) := dk_172 (dk_at dksX10_letOff_0 9 rfl rfl)
theorem dX10_letOff_10 : decode cX10_letOff 10 = .ok (.aload_n 0, 1) := dk_42 (dk_at dksX10_letOff_0 10 rfl rfl)
theorem dX10_letOff_11 : decode cX10_letOff 11 = .ok (.getfield 7, 3) := dk_180 0 7 (dk_at dksX10_letOff_0 11 rfl rfl)
theorem dX10_letOff_14 : decode cX10_letOff 14 = .ok (.iconst 3, 1) := dk_6 (dk_at dksX10_letOff_0 14 rfl rfl)
theorem dX10_letOff_15 : decode cX10_letOff 15 = .ok (.iload_n 1, 1) := dk_27 (dk_at dksX10_letOff_0 15 rfl rfl)
theorem dX10_letOff_16 : decode cX10_letOff 16 = .ok (.iadd, 1) := dk_96 (dk_at dksX10_letOff_0 16 rfl rfl)
theorem dX10_letOff_17 : decode cX10_letOff 17 = .ok (.iaload, 1) := dk_46 (dk_at dksX10_letOff_0 17 rfl rfl)
theorem dX10_letOff_18 : decode cX10_letOff 18 = .ok (.iconst 1, 1) := dk_4 (dk_at dksX10_letOff_0 18 rfl rfl)
theorem dX10_letOff_19 : decode cX10_letOff 19 = .ok (.if_icmp .eq 6, 3) := dk_159 0 6 (dk_at dksX10_letOff_0 19 rfl rfl)
theorem dX10_letOff_22 : decode cX10_letOff 22 = .ok (.bipush (-2), 2) := dk_16 254 (dk_at dksX10_letOff_0 22 rfl rfl)
theorem dX10_letOff_24 : decode cX10_letOff 24 = .ok (.ireturn, 1) := dk_172 (dk_at dksX10_letOff_1 0 rfl rfl)
theorem dX10_letOff_25 : decode cX10_letOff 25 = .ok (.aload_n 0, 1) := dk_42 (dk_at dksX10_letOff_1 1 rfl rfl)
theorem dX10_letOff_26 : decode cX10_letOff 26 = .ok (.iload_n 1, 1) := dk_27 (dk_at dksX10_letOff_1 2 rfl rfl)
theorem dX10_letOff_27 : decode cX10_letOff 27 = .ok (.invokevirtual 147, 3) := dk_182 0 147 (dk_at dksX10_letOff_1 3 rfl rfl)
theorem dX10_letOff_30 : decode cX10_letOff 30 = .ok (.istore_n 2, 1) := dk_61 (dk_at dksX10_letOff_1 6 rfl rfl)
theorem dX10_letOff_31 : decode cX10_letOff 31 = .ok (.aload_n 0, 1) := dk_42 (dk_at dksX10_letOff_1 7 rfl rfl)
theorem dX10_letOff_32 : decode cX10_letOff 32 = .ok (.iconst 1, 1) := dk_4 (dk_at dksX10_letOff_1 8 rfl rfl)
theorem dX10_letOff_33 : decode cX10_letOff 33 = .ok (.iload_n 1, 1) := dk_27 (dk_at dksX10_letOff_1 9 rfl rfl)
theorem dX10_letOff_34 : decode cX10_letOff 34 = .ok (.iload_n 2, 1) := dk_28 (dk_at dksX10_letOff_1 10 rfl rfl)
theorem dX10_letOff_35 : decode cX10_letOff 35 = .ok (.aload_n 0, 1) := dk_42 (dk_at dksX10_letOff_1 11 rfl rfl)
theorem dX10_letOff_36 : decode cX10_letOff 36 = .ok (.iload_n 2, 1) := dk_28 (dk_at dksX10_letOff_1 12 rfl rfl)
theorem dX10_letOff_37 : decode cX10_letOff 37 = .ok (.iload_n 1, 1) := dk_27 (dk_at dksX10_letOff_1 13 rfl rfl)
theorem dX10_letOff_38 : decode cX10_letOff 38 = .ok (.invokevirtual 151, 3) := dk_182 0 151 (dk_at dksX10_letOff_1 14 rfl rfl)
theorem dX10_letOff_41 : decode cX10_letOff 41 = .ok (.invokevirtual 158, 3) := dk_182 0 158 (dk_at dksX10_letOff_1 17 rfl rfl)
theorem dX10_letOff_44 : decode cX10_letOff 44 = .ok (.aload_n 0, 1) := dk_42 (dk_at dksX10_letOff_1 20 rfl rfl)
theorem dX10_letOff_45 : decode cX10_letOff 45 = .ok (.iload_n 2, 1) := dk_28 (dk_at dksX10_letOff_1 21 rfl rfl)
theorem dX10_letOff_46 : decode cX10_letOff 46 = .ok (.iload_n 1, 1) := dk_27 (dk_at dksX10_letOff_1 22 rfl rfl)
theorem dX10_letOff_47 : decode cX10_letOff 47 = .ok (.invokevirtual 162, 3) := dk_182 0 162 (dk_at dksX10_letOff_2 0 rfl rfl)
theorem dX10_letOff_50 : decode cX10_letOff 50 = .ok (.aload_n 0, 1) := dk_42 (dk_at dksX10_letOff_2 3 rfl rfl)
theorem dX10_letOff_51 : decode cX10_letOff 51 = .ok (.getfield 7, 3) := dk_180 0 7 (dk_at dksX10_letOff_2 4 rfl rfl)
theorem dX10_letOff_54 : decode cX10_letOff 54 = .ok (.iconst 3, 1) := dk_6 (dk_at dksX10_letOff_2 7 rfl rfl)
theorem dX10_letOff_55 : decode cX10_letOff 55 = .ok (.iload_n 1, 1) := dk_27 (dk_at dksX10_letOff_2 8 rfl rfl)
theorem dX10_letOff_56 : decode cX10_letOff 56 = .ok (.iadd, 1) := dk_96 (dk_at dksX10_letOff_2 9 rfl rfl)
theorem dX10_letOff_57 : decode cX10_letOff 57 = .ok (.iconst 3, 1) := dk_6 (dk_at dksX10_letOff_2 10 rfl rfl)
theorem dX10_letOff_58 : decode cX10_letOff 58 = .ok (.iastore, 1) := dk_79 (dk_at dksX10_letOff_2 11 rfl rfl)
theorem dX10_letOff_59 : decode cX10_letOff 59 = .ok (.aload_n 0, 1) := dk_42 (dk_at dksX10_letOff_2 12 rfl rfl)
theorem dX10_letOff_60 : decode cX10_letOff 60 = .ok (.getfield 7, 3) := dk_180 0 7 (dk_at dksX10_letOff_2 13 rfl rfl)
theorem dX10_letOff_63 : decode cX10_letOff 63 = .ok (.bipush 11, 2) := dk_16 11 (dk_at dksX10_letOff_2 16 rfl rfl)
theorem dX10_letOff_65 : decode cX10_letOff 65 = .ok (.iload_n 1, 1) := dk_27 (dk_at dksX10_letOff_2 18 rfl rfl)
theorem dX10_letOff_66 : decode cX10_letOff 66 = .ok (.iadd, 1) := dk_96 (dk_at dksX10_letOff_2 19 rfl rfl)
theorem dX10_letOff_67 : decode cX10_letOff 67 = .ok (.iaload, 1) := dk_46 (dk_at dksX10_letOff_2 20 rfl rfl)
theorem dX10_letOff_68 : decode cX10_letOff 68 = .ok (.ireturn, 1) := dk_172 (dk_at dksX10_letOff_2 21 rfl rfl)
abbrev cX10_placeOf : ByteArray := prog_14_method_21_code
def yX10_placeOf : MethodName := ⟨RX10, "placeOf", "(II)I"⟩
def dkwX10_placeOf_1 : List UInt8 := [167, 255, 236, 29, 172]
abbrev dktX10_placeOf_1 : List UInt8 := dkwX10_placeOf_1 ++ []
def dkwX10_placeOf_0 : List UInt8 := [3, 62, 42, 180, 0, 7, 16, 23, 8, 27, 104, 96, 29, 96, 46, 28, 159, 0, 9, 132, 3, 1]
abbrev dktX10_placeOf_0 : List UInt8 := dkwX10_placeOf_0 ++ dktX10_placeOf_1
theorem dksX10_placeOf_0 : cX10_placeOf.data.toList.drop 0 = dktX10_placeOf_0 := by decide +kernel
theorem dksX10_placeOf_1 : cX10_placeOf.data.toList.drop 22 = dktX10_placeOf_1 := dk_seg dksX10_placeOf_0 22 rfl rfl
theorem dX10_placeOf_0 : decode cX10_placeOf 0 = .ok (.iconst 0, 1) := dk_3 (dk_at dksX10_placeOf_0 0 rfl rfl)
theorem dX10_placeOf_1 : decode cX10_placeOf 1 = .ok (.istore_n 3, 1) := dk_62 (dk_at dksX10_placeOf_0 1 rfl rfl)
theorem dX10_placeOf_2 : decode cX10_placeOf 2 = .ok (.aload_n 0, 1) := dk_42 (dk_at dksX10_placeOf_0 2 rfl rfl)
theorem dX10_placeOf_3 : decode cX10_placeOf 3 = .ok (.getfield 7, 3) := dk_180 0 7 (dk_at dksX10_placeOf_0 3 rfl rfl)
theorem dX10_placeOf_6 : decode cX10_placeOf 6 = .ok (.bipush 23, 2) := dk_16 23 (dk_at dksX10_placeOf_0 6 rfl rfl)
theorem dX10_placeOf_8 : decode cX10_placeOf 8 = .ok (.iconst 5, 1) := dk_8 (dk_at dksX10_placeOf_0 8 rfl rfl)
theorem dX10_placeOf_9 : decode cX10_placeOf 9 = .ok (.iload_n 1, 1) := dk_27 (dk_at dksX10_placeOf_0 9 rfl rfl)
theorem dX10_placeOf_10 : decode cX10_placeOf 10 = .ok (.imul, 1) := dk_104 (dk_at dksX10_placeOf_0 10 rfl rfl)
theorem dX10_placeOf_11 : decode cX10_placeOf 11 = .ok (.iadd, 1) := dk_96 (dk_at dksX10_placeOf_0 11 rfl rfl)
theorem dX10_placeOf_12 : decode cX10_placeOf 12 = .ok (.iload_n 3, 1) := dk_29 (dk_at dksX10_placeOf_0 12 rfl rfl)
theorem dX10_placeOf_13 : decode cX10_placeOf 13 = .ok (.iadd, 1) := dk_96 (dk_at dksX10_placeOf_0 13 rfl rfl)
theorem dX10_placeOf_14 : decode cX10_placeOf 14 = .ok (.iaload, 1) := dk_46 (dk_at dksX10_placeOf_0 14 rfl rfl)
theorem dX10_placeOf_15 : decode cX10_placeOf 15 = .ok (.iload_n 2, 1) := dk_28 (dk_at dksX10_placeOf_0 15 rfl rfl)
theorem dX10_placeOf_16 : decode cX10_placeOf 16 = .ok (.if_icmp .eq 9, 3) := dk_159 0 9 (dk_at dksX10_placeOf_0 16 rfl rfl)
theorem dX10_placeOf_19 : decode cX10_placeOf 19 = .ok (.iinc 3 1, 3) := dk_132 3 1 (dk_at dksX10_placeOf_0 19 rfl rfl)
theorem dX10_placeOf_22 : decode cX10_placeOf 22 = .ok (.goto (-20), 3) := dk_167 255 236 (dk_at dksX10_placeOf_1 0 rfl rfl)
theorem dX10_placeOf_25 : decode cX10_placeOf 25 = .ok (.iload_n 3, 1) := dk_29 (dk_at dksX10_placeOf_1 3 rfl rfl)
theorem dX10_placeOf_26 : decode cX10_placeOf 26 = .ok (.ireturn, 1) := dk_172 (dk_at dksX10_placeOf_1 4 rfl rfl)
abbrev cX10_remove : ByteArray := prog_14_method_22_code
def yX10_remove : MethodName := ⟨RX10, "remove", "(II)V"⟩
def dkwX10_remove_2 : List UInt8 := [180, 0, 7, 16, 23, 8, 27, 104, 96, 29, 96, 4, 96, 46, 79, 132, 3, 1, 167, 255, 212, 177]
abbrev dktX10_remove_2 : List UInt8 := dkwX10_remove_2 ++ []
def dkwX10_remove_1 : List UInt8 := [180, 0, 7, 16, 19, 27, 96, 46, 162, 0, 37, 42, 180, 0, 7, 16, 23, 8, 27, 104, 96, 29, 96, 42]
abbrev dktX10_remove_1 : List UInt8 := dkwX10_remove_1 ++ dktX10_remove_2
def dkwX10_remove_0 : List UInt8 := [42, 180, 0, 7, 16, 19, 27, 96, 92, 46, 4, 100, 79, 42, 27, 28, 182, 0, 151, 62, 29, 42]
abbrev dktX10_remove_0 : List UInt8 := dkwX10_remove_0 ++ dktX10_remove_1
theorem dksX10_remove_0 : cX10_remove.data.toList.drop 0 = dktX10_remove_0 := by decide +kernel
theorem dksX10_remove_1 : cX10_remove.data.toList.drop 22 = dktX10_remove_1 := dk_seg dksX10_remove_0 22 rfl rfl
theorem dksX10_remove_2 : cX10_remove.data.toList.drop 46 = dktX10_remove_2 := dk_seg dksX10_remove_1 24 rfl rfl
theorem dX10_remove_0 : decode cX10_remove 0 = .ok (.aload_n 0, 1) := dk_42 (dk_at dksX10_remove_0 0 rfl rfl)
theorem dX10_remove_1 : decode cX10_remove 1 = .ok (.getfield 7, 3) := dk_180 0 7 (dk_at dksX10_remove_0 1 rfl rfl)
theorem dX10_remove_4 : decode cX10_remove 4 = .ok (.bipush 19, 2) := dk_16 19 (dk_at dksX10_remove_0 4 rfl rfl)
theorem dX10_remove_6 : decode cX10_remove 6 = .ok (.iload_n 1, 1) := dk_27 (dk_at dksX10_remove_0 6 rfl rfl)
theorem dX10_remove_7 : decode cX10_remove 7 = .ok (.iadd, 1) := dk_96 (dk_at dksX10_remove_0 7 rfl rfl)
theorem dX10_remove_8 : decode cX10_remove 8 = .ok (.dup2, 1) := dk_92 (dk_at dksX10_remove_0 8 rfl rfl)
theorem dX10_remove_9 : decode cX10_remove 9 = .ok (.iaload, 1) := dk_46 (dk_at dksX10_remove_0 9 rfl rfl)
theorem dX10_remove_10 : decode cX10_remove 10 = .ok (.iconst 1, 1) := dk_4 (dk_at dksX10_remove_0 10 rfl rfl)
theorem dX10_remove_11 : decode cX10_remove 11 = .ok (.isub, 1) := dk_100 (dk_at dksX10_remove_0 11 rfl rfl)
theorem dX10_remove_12 : decode cX10_remove 12 = .ok (.iastore, 1) := dk_79 (dk_at dksX10_remove_0 12 rfl rfl)
theorem dX10_remove_13 : decode cX10_remove 13 = .ok (.aload_n 0, 1) := dk_42 (dk_at dksX10_remove_0 13 rfl rfl)
theorem dX10_remove_14 : decode cX10_remove 14 = .ok (.iload_n 1, 1) := dk_27 (dk_at dksX10_remove_0 14 rfl rfl)
theorem dX10_remove_15 : decode cX10_remove 15 = .ok (.iload_n 2, 1) := dk_28 (dk_at dksX10_remove_0 15 rfl rfl)
theorem dX10_remove_16 : decode cX10_remove 16 = .ok (.invokevirtual 151, 3) := dk_182 0 151 (dk_at dksX10_remove_0 16 rfl rfl)
theorem dX10_remove_19 : decode cX10_remove 19 = .ok (.istore_n 3, 1) := dk_62 (dk_at dksX10_remove_0 19 rfl rfl)
theorem dX10_remove_20 : decode cX10_remove 20 = .ok (.iload_n 3, 1) := dk_29 (dk_at dksX10_remove_0 20 rfl rfl)
theorem dX10_remove_21 : decode cX10_remove 21 = .ok (.aload_n 0, 1) := dk_42 (dk_at dksX10_remove_0 21 rfl rfl)
theorem dX10_remove_22 : decode cX10_remove 22 = .ok (.getfield 7, 3) := dk_180 0 7 (dk_at dksX10_remove_1 0 rfl rfl)
theorem dX10_remove_25 : decode cX10_remove 25 = .ok (.bipush 19, 2) := dk_16 19 (dk_at dksX10_remove_1 3 rfl rfl)
theorem dX10_remove_27 : decode cX10_remove 27 = .ok (.iload_n 1, 1) := dk_27 (dk_at dksX10_remove_1 5 rfl rfl)
theorem dX10_remove_28 : decode cX10_remove 28 = .ok (.iadd, 1) := dk_96 (dk_at dksX10_remove_1 6 rfl rfl)
theorem dX10_remove_29 : decode cX10_remove 29 = .ok (.iaload, 1) := dk_46 (dk_at dksX10_remove_1 7 rfl rfl)
theorem dX10_remove_30 : decode cX10_remove 30 = .ok (.if_icmp .ge 37, 3) := dk_162 0 37 (dk_at dksX10_remove_1 8 rfl rfl)
theorem dX10_remove_33 : decode cX10_remove 33 = .ok (.aload_n 0, 1) := dk_42 (dk_at dksX10_remove_1 11 rfl rfl)
theorem dX10_remove_34 : decode cX10_remove 34 = .ok (.getfield 7, 3) := dk_180 0 7 (dk_at dksX10_remove_1 12 rfl rfl)
theorem dX10_remove_37 : decode cX10_remove 37 = .ok (.bipush 23, 2) := dk_16 23 (dk_at dksX10_remove_1 15 rfl rfl)
theorem dX10_remove_39 : decode cX10_remove 39 = .ok (.iconst 5, 1) := dk_8 (dk_at dksX10_remove_1 17 rfl rfl)
theorem dX10_remove_40 : decode cX10_remove 40 = .ok (.iload_n 1, 1) := dk_27 (dk_at dksX10_remove_1 18 rfl rfl)
theorem dX10_remove_41 : decode cX10_remove 41 = .ok (.imul, 1) := dk_104 (dk_at dksX10_remove_1 19 rfl rfl)
theorem dX10_remove_42 : decode cX10_remove 42 = .ok (.iadd, 1) := dk_96 (dk_at dksX10_remove_1 20 rfl rfl)
theorem dX10_remove_43 : decode cX10_remove 43 = .ok (.iload_n 3, 1) := dk_29 (dk_at dksX10_remove_1 21 rfl rfl)
theorem dX10_remove_44 : decode cX10_remove 44 = .ok (.iadd, 1) := dk_96 (dk_at dksX10_remove_1 22 rfl rfl)
theorem dX10_remove_45 : decode cX10_remove 45 = .ok (.aload_n 0, 1) := dk_42 (dk_at dksX10_remove_1 23 rfl rfl)
theorem dX10_remove_46 : decode cX10_remove 46 = .ok (.getfield 7, 3) := dk_180 0 7 (dk_at dksX10_remove_2 0 rfl rfl)
theorem dX10_remove_49 : decode cX10_remove 49 = .ok (.bipush 23, 2) := dk_16 23 (dk_at dksX10_remove_2 3 rfl rfl)
theorem dX10_remove_51 : decode cX10_remove 51 = .ok (.iconst 5, 1) := dk_8 (dk_at dksX10_remove_2 5 rfl rfl)
theorem dX10_remove_52 : decode cX10_remove 52 = .ok (.iload_n 1, 1) := dk_27 (dk_at dksX10_remove_2 6 rfl rfl)
theorem dX10_remove_53 : decode cX10_remove 53 = .ok (.imul, 1) := dk_104 (dk_at dksX10_remove_2 7 rfl rfl)
theorem dX10_remove_54 : decode cX10_remove 54 = .ok (.iadd, 1) := dk_96 (dk_at dksX10_remove_2 8 rfl rfl)
theorem dX10_remove_55 : decode cX10_remove 55 = .ok (.iload_n 3, 1) := dk_29 (dk_at dksX10_remove_2 9 rfl rfl)
theorem dX10_remove_56 : decode cX10_remove 56 = .ok (.iadd, 1) := dk_96 (dk_at dksX10_remove_2 10 rfl rfl)
theorem dX10_remove_57 : decode cX10_remove 57 = .ok (.iconst 1, 1) := dk_4 (dk_at dksX10_remove_2 11 rfl rfl)
theorem dX10_remove_58 : decode cX10_remove 58 = .ok (.iadd, 1) := dk_96 (dk_at dksX10_remove_2 12 rfl rfl)
theorem dX10_remove_59 : decode cX10_remove 59 = .ok (.iaload, 1) := dk_46 (dk_at dksX10_remove_2 13 rfl rfl)
theorem dX10_remove_60 : decode cX10_remove 60 = .ok (.iastore, 1) := dk_79 (dk_at dksX10_remove_2 14 rfl rfl)
theorem dX10_remove_61 : decode cX10_remove 61 = .ok (.iinc 3 1, 3) := dk_132 3 1 (dk_at dksX10_remove_2 15 rfl rfl)
theorem dX10_remove_64 : decode cX10_remove 64 = .ok (.goto (-44), 3) := dk_167 255 212 (dk_at dksX10_remove_2 18 rfl rfl)
theorem dX10_remove_67 : decode cX10_remove 67 = .ok (.return_, 1) := dk_177 (dk_at dksX10_remove_2 21 rfl rfl)
abbrev cX10_breaks : ByteArray := prog_14_method_26_code
def yX10_breaks : MethodName := ⟨RX10, "breaks", "(I)I"⟩
def dkwX10_breaks_3 : List UInt8 := [27, 104, 6, 96, 46, 96, 79, 42, 180, 0, 26, 8, 27, 104, 6, 96, 46, 172]
abbrev dktX10_breaks_3 : List UInt8 := dkwX10_breaks_3 ++ []
def dkwX10_breaks_2 : List UInt8 := [182, 0, 162, 42, 180, 0, 7, 6, 27, 96, 6, 79, 42, 180, 0, 7, 5, 92, 46, 42, 180, 0, 26, 8]
abbrev dktX10_breaks_2 : List UInt8 := dkwX10_breaks_2 ++ dktX10_breaks_3
def dkwX10_breaks_1 : List UInt8 := [172, 42, 27, 182, 0, 147, 61, 42, 5, 27, 28, 42, 28, 27, 182, 0, 151, 182, 0, 158, 42, 28, 27]
abbrev dktX10_breaks_1 : List UInt8 := dkwX10_breaks_1 ++ dktX10_breaks_2
def dkwX10_breaks_0 : List UInt8 := [42, 27, 182, 0, 142, 154, 0, 5, 2, 172, 42, 180, 0, 7, 6, 27, 96, 46, 4, 159, 0, 6, 16, 254]
abbrev dktX10_breaks_0 : List UInt8 := dkwX10_breaks_0 ++ dktX10_breaks_1
theorem dksX10_breaks_0 : cX10_breaks.data.toList.drop 0 = dktX10_breaks_0 := by decide +kernel
theorem dksX10_breaks_1 : cX10_breaks.data.toList.drop 24 = dktX10_breaks_1 := dk_seg dksX10_breaks_0 24 rfl rfl
theorem dksX10_breaks_2 : cX10_breaks.data.toList.drop 47 = dktX10_breaks_2 := dk_seg dksX10_breaks_1 23 rfl rfl
theorem dksX10_breaks_3 : cX10_breaks.data.toList.drop 71 = dktX10_breaks_3 := dk_seg dksX10_breaks_2 24 rfl rfl
theorem dX10_breaks_0 : decode cX10_breaks 0 = .ok (.aload_n 0, 1) := dk_42 (dk_at dksX10_breaks_0 0 rfl rfl)
theorem dX10_breaks_1 : decode cX10_breaks 1 = .ok (.iload_n 1, 1) := dk_27 (dk_at dksX10_breaks_0 1 rfl rfl)
theorem dX10_breaks_2 : decode cX10_breaks 2 = .ok (.invokevirtual 142, 3) := dk_182 0 142 (dk_at dksX10_breaks_0 2 rfl rfl)
theorem dX10_breaks_5 : decode cX10_breaks 5 = .ok (.ifCond .ne 5, 3) := dk_154 0 5 (dk_at dksX10_breaks_0 5 rfl rfl)
theorem dX10_breaks_8 : decode cX10_breaks 8 = .ok (.iconst (-1), 1) := dk_2 (dk_at dksX10_breaks_0 8 rfl rfl)
theorem dX10_breaks_9 : decode cX10_breaks 9 = .ok (.ireturn, 1) := dk_172 (dk_at dksX10_breaks_0 9 rfl rfl)
theorem dX10_breaks_10 : decode cX10_breaks 10 = .ok (.aload_n 0, 1) := dk_42 (dk_at dksX10_breaks_0 10 rfl rfl)
theorem dX10_breaks_11 : decode cX10_breaks 11 = .ok (.getfield 7, 3) := dk_180 0 7 (dk_at dksX10_breaks_0 11 rfl rfl)
theorem dX10_breaks_14 : decode cX10_breaks 14 = .ok (.iconst 3, 1) := dk_6 (dk_at dksX10_breaks_0 14 rfl rfl)
theorem dX10_breaks_15 : decode cX10_breaks 15 = .ok (.iload_n 1, 1) := dk_27 (dk_at dksX10_breaks_0 15 rfl rfl)
theorem dX10_breaks_16 : decode cX10_breaks 16 = .ok (.iadd, 1) := dk_96 (dk_at dksX10_breaks_0 16 rfl rfl)
theorem dX10_breaks_17 : decode cX10_breaks 17 = .ok (.iaload, 1) := dk_46 (dk_at dksX10_breaks_0 17 rfl rfl)
theorem dX10_breaks_18 : decode cX10_breaks 18 = .ok (.iconst 1, 1) := dk_4 (dk_at dksX10_breaks_0 18 rfl rfl)
theorem dX10_breaks_19 : decode cX10_breaks 19 = .ok (.if_icmp .eq 6, 3) := dk_159 0 6 (dk_at dksX10_breaks_0 19 rfl rfl)
theorem dX10_breaks_22 : decode cX10_breaks 22 = .ok (.bipush (-2), 2) := dk_16 254 (dk_at dksX10_breaks_0 22 rfl rfl)
theorem dX10_breaks_24 : decode cX10_breaks 24 = .ok (.ireturn, 1) := dk_172 (dk_at dksX10_breaks_1 0 rfl rfl)
theorem dX10_breaks_25 : decode cX10_breaks 25 = .ok (.aload_n 0, 1) := dk_42 (dk_at dksX10_breaks_1 1 rfl rfl)
theorem dX10_breaks_26 : decode cX10_breaks 26 = .ok (.iload_n 1, 1) := dk_27 (dk_at dksX10_breaks_1 2 rfl rfl)
theorem dX10_breaks_27 : decode cX10_breaks 27 = .ok (.invokevirtual 147, 3) := dk_182 0 147 (dk_at dksX10_breaks_1 3 rfl rfl)
theorem dX10_breaks_30 : decode cX10_breaks 30 = .ok (.istore_n 2, 1) := dk_61 (dk_at dksX10_breaks_1 6 rfl rfl)
theorem dX10_breaks_31 : decode cX10_breaks 31 = .ok (.aload_n 0, 1) := dk_42 (dk_at dksX10_breaks_1 7 rfl rfl)
theorem dX10_breaks_32 : decode cX10_breaks 32 = .ok (.iconst 2, 1) := dk_5 (dk_at dksX10_breaks_1 8 rfl rfl)
theorem dX10_breaks_33 : decode cX10_breaks 33 = .ok (.iload_n 1, 1) := dk_27 (dk_at dksX10_breaks_1 9 rfl rfl)
theorem dX10_breaks_34 : decode cX10_breaks 34 = .ok (.iload_n 2, 1) := dk_28 (dk_at dksX10_breaks_1 10 rfl rfl)
theorem dX10_breaks_35 : decode cX10_breaks 35 = .ok (.aload_n 0, 1) := dk_42 (dk_at dksX10_breaks_1 11 rfl rfl)
theorem dX10_breaks_36 : decode cX10_breaks 36 = .ok (.iload_n 2, 1) := dk_28 (dk_at dksX10_breaks_1 12 rfl rfl)
theorem dX10_breaks_37 : decode cX10_breaks 37 = .ok (.iload_n 1, 1) := dk_27 (dk_at dksX10_breaks_1 13 rfl rfl)
theorem dX10_breaks_38 : decode cX10_breaks 38 = .ok (.invokevirtual 151, 3) := dk_182 0 151 (dk_at dksX10_breaks_1 14 rfl rfl)
theorem dX10_breaks_41 : decode cX10_breaks 41 = .ok (.invokevirtual 158, 3) := dk_182 0 158 (dk_at dksX10_breaks_1 17 rfl rfl)
theorem dX10_breaks_44 : decode cX10_breaks 44 = .ok (.aload_n 0, 1) := dk_42 (dk_at dksX10_breaks_1 20 rfl rfl)
theorem dX10_breaks_45 : decode cX10_breaks 45 = .ok (.iload_n 2, 1) := dk_28 (dk_at dksX10_breaks_1 21 rfl rfl)
theorem dX10_breaks_46 : decode cX10_breaks 46 = .ok (.iload_n 1, 1) := dk_27 (dk_at dksX10_breaks_1 22 rfl rfl)
theorem dX10_breaks_47 : decode cX10_breaks 47 = .ok (.invokevirtual 162, 3) := dk_182 0 162 (dk_at dksX10_breaks_2 0 rfl rfl)
theorem dX10_breaks_50 : decode cX10_breaks 50 = .ok (.aload_n 0, 1) := dk_42 (dk_at dksX10_breaks_2 3 rfl rfl)
theorem dX10_breaks_51 : decode cX10_breaks 51 = .ok (.getfield 7, 3) := dk_180 0 7 (dk_at dksX10_breaks_2 4 rfl rfl)
theorem dX10_breaks_54 : decode cX10_breaks 54 = .ok (.iconst 3, 1) := dk_6 (dk_at dksX10_breaks_2 7 rfl rfl)
theorem dX10_breaks_55 : decode cX10_breaks 55 = .ok (.iload_n 1, 1) := dk_27 (dk_at dksX10_breaks_2 8 rfl rfl)
theorem dX10_breaks_56 : decode cX10_breaks 56 = .ok (.iadd, 1) := dk_96 (dk_at dksX10_breaks_2 9 rfl rfl)
theorem dX10_breaks_57 : decode cX10_breaks 57 = .ok (.iconst 3, 1) := dk_6 (dk_at dksX10_breaks_2 10 rfl rfl)
theorem dX10_breaks_58 : decode cX10_breaks 58 = .ok (.iastore, 1) := dk_79 (dk_at dksX10_breaks_2 11 rfl rfl)
theorem dX10_breaks_59 : decode cX10_breaks 59 = .ok (.aload_n 0, 1) := dk_42 (dk_at dksX10_breaks_2 12 rfl rfl)
theorem dX10_breaks_60 : decode cX10_breaks 60 = .ok (.getfield 7, 3) := dk_180 0 7 (dk_at dksX10_breaks_2 13 rfl rfl)
theorem dX10_breaks_63 : decode cX10_breaks 63 = .ok (.iconst 2, 1) := dk_5 (dk_at dksX10_breaks_2 16 rfl rfl)
theorem dX10_breaks_64 : decode cX10_breaks 64 = .ok (.dup2, 1) := dk_92 (dk_at dksX10_breaks_2 17 rfl rfl)
theorem dX10_breaks_65 : decode cX10_breaks 65 = .ok (.iaload, 1) := dk_46 (dk_at dksX10_breaks_2 18 rfl rfl)
theorem dX10_breaks_66 : decode cX10_breaks 66 = .ok (.aload_n 0, 1) := dk_42 (dk_at dksX10_breaks_2 19 rfl rfl)
theorem dX10_breaks_67 : decode cX10_breaks 67 = .ok (.getfield 26, 3) := dk_180 0 26 (dk_at dksX10_breaks_2 20 rfl rfl)
theorem dX10_breaks_70 : decode cX10_breaks 70 = .ok (.iconst 5, 1) := dk_8 (dk_at dksX10_breaks_2 23 rfl rfl)
theorem dX10_breaks_71 : decode cX10_breaks 71 = .ok (.iload_n 1, 1) := dk_27 (dk_at dksX10_breaks_3 0 rfl rfl)
theorem dX10_breaks_72 : decode cX10_breaks 72 = .ok (.imul, 1) := dk_104 (dk_at dksX10_breaks_3 1 rfl rfl)
theorem dX10_breaks_73 : decode cX10_breaks 73 = .ok (.iconst 3, 1) := dk_6 (dk_at dksX10_breaks_3 2 rfl rfl)
theorem dX10_breaks_74 : decode cX10_breaks 74 = .ok (.iadd, 1) := dk_96 (dk_at dksX10_breaks_3 3 rfl rfl)
theorem dX10_breaks_75 : decode cX10_breaks 75 = .ok (.iaload, 1) := dk_46 (dk_at dksX10_breaks_3 4 rfl rfl)
theorem dX10_breaks_76 : decode cX10_breaks 76 = .ok (.iadd, 1) := dk_96 (dk_at dksX10_breaks_3 5 rfl rfl)
theorem dX10_breaks_77 : decode cX10_breaks 77 = .ok (.iastore, 1) := dk_79 (dk_at dksX10_breaks_3 6 rfl rfl)
theorem dX10_breaks_78 : decode cX10_breaks 78 = .ok (.aload_n 0, 1) := dk_42 (dk_at dksX10_breaks_3 7 rfl rfl)
theorem dX10_breaks_79 : decode cX10_breaks 79 = .ok (.getfield 26, 3) := dk_180 0 26 (dk_at dksX10_breaks_3 8 rfl rfl)
theorem dX10_breaks_82 : decode cX10_breaks 82 = .ok (.iconst 5, 1) := dk_8 (dk_at dksX10_breaks_3 11 rfl rfl)
theorem dX10_breaks_83 : decode cX10_breaks 83 = .ok (.iload_n 1, 1) := dk_27 (dk_at dksX10_breaks_3 12 rfl rfl)
theorem dX10_breaks_84 : decode cX10_breaks 84 = .ok (.imul, 1) := dk_104 (dk_at dksX10_breaks_3 13 rfl rfl)
theorem dX10_breaks_85 : decode cX10_breaks 85 = .ok (.iconst 3, 1) := dk_6 (dk_at dksX10_breaks_3 14 rfl rfl)
theorem dX10_breaks_86 : decode cX10_breaks 86 = .ok (.iadd, 1) := dk_96 (dk_at dksX10_breaks_3 15 rfl rfl)
theorem dX10_breaks_87 : decode cX10_breaks 87 = .ok (.iaload, 1) := dk_46 (dk_at dksX10_breaks_3 16 rfl rfl)
theorem dX10_breaks_88 : decode cX10_breaks 88 = .ok (.ireturn, 1) := dk_172 (dk_at dksX10_breaks_3 17 rfl rfl)
abbrev cX10_hand : ByteArray := prog_14_method_27_code
def yX10_hand : MethodName := ⟨RX10, "hand", "(II)I"⟩
def dkwX10_hand_4 : List UInt8 := [182, 0, 154, 42, 180, 0, 7, 16, 19, 28, 96, 46, 172]
abbrev dktX10_hand_4 : List UInt8 := dkwX10_hand_4 ++ []
def dkwX10_hand_3 : List UInt8 := [182, 0, 151, 182, 0, 158, 42, 29, 27, 182, 0, 162, 42, 28, 42, 180, 0, 7, 16, 19, 28, 96, 46, 27]
abbrev dktX10_hand_3 : List UInt8 := dkwX10_hand_3 ++ dktX10_hand_4
def dkwX10_hand_2 : List UInt8 := [16, 19, 28, 96, 46, 42, 180, 0, 17, 28, 46, 160, 0, 6, 16, 253, 172, 42, 6, 27, 29, 42, 29, 27]
abbrev dktX10_hand_2 : List UInt8 := dkwX10_hand_2 ++ dktX10_hand_3
def dkwX10_hand_1 : List UInt8 := [42, 180, 0, 7, 6, 27, 96, 46, 4, 160, 0, 8, 29, 28, 160, 0, 6, 16, 254, 172, 42, 180, 0, 7]
abbrev dktX10_hand_1 : List UInt8 := dkwX10_hand_1 ++ dktX10_hand_2
def dkwX10_hand_0 : List UInt8 := [42, 27, 182, 0, 142, 153, 0, 11, 42, 28, 182, 0, 136, 154, 0, 5, 2, 172, 42, 27, 182, 0, 147, 62]
abbrev dktX10_hand_0 : List UInt8 := dkwX10_hand_0 ++ dktX10_hand_1
theorem dksX10_hand_0 : cX10_hand.data.toList.drop 0 = dktX10_hand_0 := by decide +kernel
theorem dksX10_hand_1 : cX10_hand.data.toList.drop 24 = dktX10_hand_1 := dk_seg dksX10_hand_0 24 rfl rfl
theorem dksX10_hand_2 : cX10_hand.data.toList.drop 48 = dktX10_hand_2 := dk_seg dksX10_hand_1 24 rfl rfl
theorem dksX10_hand_3 : cX10_hand.data.toList.drop 72 = dktX10_hand_3 := dk_seg dksX10_hand_2 24 rfl rfl
theorem dksX10_hand_4 : cX10_hand.data.toList.drop 96 = dktX10_hand_4 := dk_seg dksX10_hand_3 24 rfl rfl
theorem dX10_hand_0 : decode cX10_hand 0 = .ok (.aload_n 0, 1) := dk_42 (dk_at dksX10_hand_0 0 rfl rfl)
theorem dX10_hand_1 : decode cX10_hand 1 = .ok (.iload_n 1, 1) := dk_27 (dk_at dksX10_hand_0 1 rfl rfl)
theorem dX10_hand_2 : decode cX10_hand 2 = .ok (.invokevirtual 142, 3) := dk_182 0 142 (dk_at dksX10_hand_0 2 rfl rfl)
theorem dX10_hand_5 : decode cX10_hand 5 = .ok (.ifCond .eq 11, 3) := dk_153 0 11 (dk_at dksX10_hand_0 5 rfl rfl)
theorem dX10_hand_8 : decode cX10_hand 8 = .ok (.aload_n 0, 1) := dk_42 (dk_at dksX10_hand_0 8 rfl rfl)
theorem dX10_hand_9 : decode cX10_hand 9 = .ok (.iload_n 2, 1) := dk_28 (dk_at dksX10_hand_0 9 rfl rfl)
theorem dX10_hand_10 : decode cX10_hand 10 = .ok (.invokevirtual 136, 3) := dk_182 0 136 (dk_at dksX10_hand_0 10 rfl rfl)
theorem dX10_hand_13 : decode cX10_hand 13 = .ok (.ifCond .ne 5, 3) := dk_154 0 5 (dk_at dksX10_hand_0 13 rfl rfl)
theorem dX10_hand_16 : decode cX10_hand 16 = .ok (.iconst (-1), 1) := dk_2 (dk_at dksX10_hand_0 16 rfl rfl)
theorem dX10_hand_17 : decode cX10_hand 17 = .ok (.ireturn, 1) := dk_172 (dk_at dksX10_hand_0 17 rfl rfl)
theorem dX10_hand_18 : decode cX10_hand 18 = .ok (.aload_n 0, 1) := dk_42 (dk_at dksX10_hand_0 18 rfl rfl)
theorem dX10_hand_19 : decode cX10_hand 19 = .ok (.iload_n 1, 1) := dk_27 (dk_at dksX10_hand_0 19 rfl rfl)
theorem dX10_hand_20 : decode cX10_hand 20 = .ok (.invokevirtual 147, 3) := dk_182 0 147 (dk_at dksX10_hand_0 20 rfl rfl)
theorem dX10_hand_23 : decode cX10_hand 23 = .ok (.istore_n 3, 1) := dk_62 (dk_at dksX10_hand_0 23 rfl rfl)
theorem dX10_hand_24 : decode cX10_hand 24 = .ok (.aload_n 0, 1) := dk_42 (dk_at dksX10_hand_1 0 rfl rfl)
theorem dX10_hand_25 : decode cX10_hand 25 = .ok (.getfield 7, 3) := dk_180 0 7 (dk_at dksX10_hand_1 1 rfl rfl)
theorem dX10_hand_28 : decode cX10_hand 28 = .ok (.iconst 3, 1) := dk_6 (dk_at dksX10_hand_1 4 rfl rfl)
theorem dX10_hand_29 : decode cX10_hand 29 = .ok (.iload_n 1, 1) := dk_27 (dk_at dksX10_hand_1 5 rfl rfl)
theorem dX10_hand_30 : decode cX10_hand 30 = .ok (.iadd, 1) := dk_96 (dk_at dksX10_hand_1 6 rfl rfl)
theorem dX10_hand_31 : decode cX10_hand 31 = .ok (.iaload, 1) := dk_46 (dk_at dksX10_hand_1 7 rfl rfl)
theorem dX10_hand_32 : decode cX10_hand 32 = .ok (.iconst 1, 1) := dk_4 (dk_at dksX10_hand_1 8 rfl rfl)
theorem dX10_hand_33 : decode cX10_hand 33 = .ok (.if_icmp .ne 8, 3) := dk_160 0 8 (dk_at dksX10_hand_1 9 rfl rfl)
theorem dX10_hand_36 : decode cX10_hand 36 = .ok (.iload_n 3, 1) := dk_29 (dk_at dksX10_hand_1 12 rfl rfl)
theorem dX10_hand_37 : decode cX10_hand 37 = .ok (.iload_n 2, 1) := dk_28 (dk_at dksX10_hand_1 13 rfl rfl)
theorem dX10_hand_38 : decode cX10_hand 38 = .ok (.if_icmp .ne 6, 3) := dk_160 0 6 (dk_at dksX10_hand_1 14 rfl rfl)
theorem dX10_hand_41 : decode cX10_hand 41 = .ok (.bipush (-2), 2) := dk_16 254 (dk_at dksX10_hand_1 17 rfl rfl)
theorem dX10_hand_43 : decode cX10_hand 43 = .ok (.ireturn, 1) := dk_172 (dk_at dksX10_hand_1 19 rfl rfl)
theorem dX10_hand_44 : decode cX10_hand 44 = .ok (.aload_n 0, 1) := dk_42 (dk_at dksX10_hand_1 20 rfl rfl)
theorem dX10_hand_45 : decode cX10_hand 45 = .ok (.getfield 7, 3) := dk_180 0 7 (dk_at dksX10_hand_1 21 rfl rfl)
theorem dX10_hand_48 : decode cX10_hand 48 = .ok (.bipush 19, 2) := dk_16 19 (dk_at dksX10_hand_2 0 rfl rfl)
theorem dX10_hand_50 : decode cX10_hand 50 = .ok (.iload_n 2, 1) := dk_28 (dk_at dksX10_hand_2 2 rfl rfl)
theorem dX10_hand_51 : decode cX10_hand 51 = .ok (.iadd, 1) := dk_96 (dk_at dksX10_hand_2 3 rfl rfl)
theorem dX10_hand_52 : decode cX10_hand 52 = .ok (.iaload, 1) := dk_46 (dk_at dksX10_hand_2 4 rfl rfl)
theorem dX10_hand_53 : decode cX10_hand 53 = .ok (.aload_n 0, 1) := dk_42 (dk_at dksX10_hand_2 5 rfl rfl)
theorem dX10_hand_54 : decode cX10_hand 54 = .ok (.getfield 17, 3) := dk_180 0 17 (dk_at dksX10_hand_2 6 rfl rfl)
theorem dX10_hand_57 : decode cX10_hand 57 = .ok (.iload_n 2, 1) := dk_28 (dk_at dksX10_hand_2 9 rfl rfl)
theorem dX10_hand_58 : decode cX10_hand 58 = .ok (.iaload, 1) := dk_46 (dk_at dksX10_hand_2 10 rfl rfl)
theorem dX10_hand_59 : decode cX10_hand 59 = .ok (.if_icmp .ne 6, 3) := dk_160 0 6 (dk_at dksX10_hand_2 11 rfl rfl)
theorem dX10_hand_62 : decode cX10_hand 62 = .ok (.bipush (-3), 2) := dk_16 253 (dk_at dksX10_hand_2 14 rfl rfl)
theorem dX10_hand_64 : decode cX10_hand 64 = .ok (.ireturn, 1) := dk_172 (dk_at dksX10_hand_2 16 rfl rfl)
theorem dX10_hand_65 : decode cX10_hand 65 = .ok (.aload_n 0, 1) := dk_42 (dk_at dksX10_hand_2 17 rfl rfl)
theorem dX10_hand_66 : decode cX10_hand 66 = .ok (.iconst 3, 1) := dk_6 (dk_at dksX10_hand_2 18 rfl rfl)
theorem dX10_hand_67 : decode cX10_hand 67 = .ok (.iload_n 1, 1) := dk_27 (dk_at dksX10_hand_2 19 rfl rfl)
theorem dX10_hand_68 : decode cX10_hand 68 = .ok (.iload_n 3, 1) := dk_29 (dk_at dksX10_hand_2 20 rfl rfl)
theorem dX10_hand_69 : decode cX10_hand 69 = .ok (.aload_n 0, 1) := dk_42 (dk_at dksX10_hand_2 21 rfl rfl)
theorem dX10_hand_70 : decode cX10_hand 70 = .ok (.iload_n 3, 1) := dk_29 (dk_at dksX10_hand_2 22 rfl rfl)
theorem dX10_hand_71 : decode cX10_hand 71 = .ok (.iload_n 1, 1) := dk_27 (dk_at dksX10_hand_2 23 rfl rfl)
theorem dX10_hand_72 : decode cX10_hand 72 = .ok (.invokevirtual 151, 3) := dk_182 0 151 (dk_at dksX10_hand_3 0 rfl rfl)
theorem dX10_hand_75 : decode cX10_hand 75 = .ok (.invokevirtual 158, 3) := dk_182 0 158 (dk_at dksX10_hand_3 3 rfl rfl)
theorem dX10_hand_78 : decode cX10_hand 78 = .ok (.aload_n 0, 1) := dk_42 (dk_at dksX10_hand_3 6 rfl rfl)
theorem dX10_hand_79 : decode cX10_hand 79 = .ok (.iload_n 3, 1) := dk_29 (dk_at dksX10_hand_3 7 rfl rfl)
theorem dX10_hand_80 : decode cX10_hand 80 = .ok (.iload_n 1, 1) := dk_27 (dk_at dksX10_hand_3 8 rfl rfl)
theorem dX10_hand_81 : decode cX10_hand 81 = .ok (.invokevirtual 162, 3) := dk_182 0 162 (dk_at dksX10_hand_3 9 rfl rfl)
theorem dX10_hand_84 : decode cX10_hand 84 = .ok (.aload_n 0, 1) := dk_42 (dk_at dksX10_hand_3 12 rfl rfl)
theorem dX10_hand_85 : decode cX10_hand 85 = .ok (.iload_n 2, 1) := dk_28 (dk_at dksX10_hand_3 13 rfl rfl)
theorem dX10_hand_86 : decode cX10_hand 86 = .ok (.aload_n 0, 1) := dk_42 (dk_at dksX10_hand_3 14 rfl rfl)
theorem dX10_hand_87 : decode cX10_hand 87 = .ok (.getfield 7, 3) := dk_180 0 7 (dk_at dksX10_hand_3 15 rfl rfl)
theorem dX10_hand_90 : decode cX10_hand 90 = .ok (.bipush 19, 2) := dk_16 19 (dk_at dksX10_hand_3 18 rfl rfl)
theorem dX10_hand_92 : decode cX10_hand 92 = .ok (.iload_n 2, 1) := dk_28 (dk_at dksX10_hand_3 20 rfl rfl)
theorem dX10_hand_93 : decode cX10_hand 93 = .ok (.iadd, 1) := dk_96 (dk_at dksX10_hand_3 21 rfl rfl)
theorem dX10_hand_94 : decode cX10_hand 94 = .ok (.iaload, 1) := dk_46 (dk_at dksX10_hand_3 22 rfl rfl)
theorem dX10_hand_95 : decode cX10_hand 95 = .ok (.iload_n 1, 1) := dk_27 (dk_at dksX10_hand_3 23 rfl rfl)
theorem dX10_hand_96 : decode cX10_hand 96 = .ok (.invokevirtual 154, 3) := dk_182 0 154 (dk_at dksX10_hand_4 0 rfl rfl)
theorem dX10_hand_99 : decode cX10_hand 99 = .ok (.aload_n 0, 1) := dk_42 (dk_at dksX10_hand_4 3 rfl rfl)
theorem dX10_hand_100 : decode cX10_hand 100 = .ok (.getfield 7, 3) := dk_180 0 7 (dk_at dksX10_hand_4 4 rfl rfl)
theorem dX10_hand_103 : decode cX10_hand 103 = .ok (.bipush 19, 2) := dk_16 19 (dk_at dksX10_hand_4 7 rfl rfl)
theorem dX10_hand_105 : decode cX10_hand 105 = .ok (.iload_n 2, 1) := dk_28 (dk_at dksX10_hand_4 9 rfl rfl)
theorem dX10_hand_106 : decode cX10_hand 106 = .ok (.iadd, 1) := dk_96 (dk_at dksX10_hand_4 10 rfl rfl)
theorem dX10_hand_107 : decode cX10_hand 107 = .ok (.iaload, 1) := dk_46 (dk_at dksX10_hand_4 11 rfl rfl)
theorem dX10_hand_108 : decode cX10_hand 108 = .ok (.ireturn, 1) := dk_172 (dk_at dksX10_hand_4 12 rfl rfl)
abbrev cX10_undo : ByteArray := prog_14_method_28_code
def yX10_undo : MethodName := ⟨RX10, "undo", "()I"⟩
def dkwX10_undo_7 : List UInt8 := [16, 43, 46, 172]
abbrev dktX10_undo_7 : List UInt8 := dkwX10_undo_7 ++ []
def dkwX10_undo_6 : List UInt8 := [160, 0, 16, 42, 180, 0, 26, 8, 29, 104, 6, 96, 46, 167, 0, 4, 3, 100, 79, 42, 180, 0, 7]
abbrev dktX10_undo_6 : List UInt8 := dkwX10_undo_6 ++ dktX10_undo_7
def dkwX10_undo_5 : List UInt8 := [96, 46, 42, 180, 0, 7, 27, 6, 96, 46, 29, 182, 0, 154, 42, 180, 0, 7, 5, 92, 46, 28, 5]
abbrev dktX10_undo_5 : List UInt8 := dkwX10_undo_5 ++ dktX10_undo_6
def dkwX10_undo_4 : List UInt8 := [46, 172, 28, 6, 160, 0, 13, 42, 42, 29, 182, 0, 147, 29, 182, 0, 162, 42, 42, 180, 0, 7, 27, 5]
abbrev dktX10_undo_4 : List UInt8 := dkwX10_undo_4 ++ dktX10_undo_5
def dkwX10_undo_3 : List UInt8 := [180, 0, 7, 6, 29, 96, 3, 79, 42, 180, 0, 7, 16, 11, 29, 96, 3, 79, 42, 180, 0, 7, 16, 43]
abbrev dktX10_undo_3 : List UInt8 := dkwX10_undo_3 ++ dktX10_undo_4
def dkwX10_undo_2 : List UInt8 := [27, 4, 96, 46, 62, 28, 154, 0, 43, 42, 42, 180, 0, 7, 27, 5, 96, 46, 29, 182, 0, 162, 42]
abbrev dktX10_undo_2 : List UInt8 := dkwX10_undo_2 ++ dktX10_undo_3
def dkwX10_undo_1 : List UInt8 := [16, 44, 7, 42, 180, 0, 7, 16, 43, 46, 104, 96, 60, 42, 180, 0, 7, 27, 46, 61, 42, 180, 0, 7]
abbrev dktX10_undo_1 : List UInt8 := dkwX10_undo_1 ++ dktX10_undo_2
def dkwX10_undo_0 : List UInt8 := [42, 180, 0, 7, 16, 43, 46, 154, 0, 6, 16, 254, 172, 42, 180, 0, 7, 16, 43, 92, 46, 4, 100, 79]
abbrev dktX10_undo_0 : List UInt8 := dkwX10_undo_0 ++ dktX10_undo_1
theorem dksX10_undo_0 : cX10_undo.data.toList.drop 0 = dktX10_undo_0 := by decide +kernel
theorem dksX10_undo_1 : cX10_undo.data.toList.drop 24 = dktX10_undo_1 := dk_seg dksX10_undo_0 24 rfl rfl
theorem dksX10_undo_2 : cX10_undo.data.toList.drop 48 = dktX10_undo_2 := dk_seg dksX10_undo_1 24 rfl rfl
theorem dksX10_undo_3 : cX10_undo.data.toList.drop 71 = dktX10_undo_3 := dk_seg dksX10_undo_2 23 rfl rfl
theorem dksX10_undo_4 : cX10_undo.data.toList.drop 95 = dktX10_undo_4 := dk_seg dksX10_undo_3 24 rfl rfl
theorem dksX10_undo_5 : cX10_undo.data.toList.drop 119 = dktX10_undo_5 := dk_seg dksX10_undo_4 24 rfl rfl
theorem dksX10_undo_6 : cX10_undo.data.toList.drop 142 = dktX10_undo_6 := dk_seg dksX10_undo_5 23 rfl rfl
theorem dksX10_undo_7 : cX10_undo.data.toList.drop 165 = dktX10_undo_7 := dk_seg dksX10_undo_6 23 rfl rfl
theorem dX10_undo_0 : decode cX10_undo 0 = .ok (.aload_n 0, 1) := dk_42 (dk_at dksX10_undo_0 0 rfl rfl)
theorem dX10_undo_1 : decode cX10_undo 1 = .ok (.getfield 7, 3) := dk_180 0 7 (dk_at dksX10_undo_0 1 rfl rfl)
theorem dX10_undo_4 : decode cX10_undo 4 = .ok (.bipush 43, 2) := dk_16 43 (dk_at dksX10_undo_0 4 rfl rfl)
theorem dX10_undo_6 : decode cX10_undo 6 = .ok (.iaload, 1) := dk_46 (dk_at dksX10_undo_0 6 rfl rfl)
theorem dX10_undo_7 : decode cX10_undo 7 = .ok (.ifCond .ne 6, 3) := dk_154 0 6 (dk_at dksX10_undo_0 7 rfl rfl)
theorem dX10_undo_10 : decode cX10_undo 10 = .ok (.bipush (-2), 2) := dk_16 254 (dk_at dksX10_undo_0 10 rfl rfl)
theorem dX10_undo_12 : decode cX10_undo 12 = .ok (.ireturn, 1) := dk_172 (dk_at dksX10_undo_0 12 rfl rfl)
theorem dX10_undo_13 : decode cX10_undo 13 = .ok (.aload_n 0, 1) := dk_42 (dk_at dksX10_undo_0 13 rfl rfl)
theorem dX10_undo_14 : decode cX10_undo 14 = .ok (.getfield 7, 3) := dk_180 0 7 (dk_at dksX10_undo_0 14 rfl rfl)
theorem dX10_undo_17 : decode cX10_undo 17 = .ok (.bipush 43, 2) := dk_16 43 (dk_at dksX10_undo_0 17 rfl rfl)
theorem dX10_undo_19 : decode cX10_undo 19 = .ok (.dup2, 1) := dk_92 (dk_at dksX10_undo_0 19 rfl rfl)
theorem dX10_undo_20 : decode cX10_undo 20 = .ok (.iaload, 1) := dk_46 (dk_at dksX10_undo_0 20 rfl rfl)
theorem dX10_undo_21 : decode cX10_undo 21 = .ok (.iconst 1, 1) := dk_4 (dk_at dksX10_undo_0 21 rfl rfl)
theorem dX10_undo_22 : decode cX10_undo 22 = .ok (.isub, 1) := dk_100 (dk_at dksX10_undo_0 22 rfl rfl)
theorem dX10_undo_23 : decode cX10_undo 23 = .ok (.iastore, 1) := dk_79 (dk_at dksX10_undo_0 23 rfl rfl)
theorem dX10_undo_24 : decode cX10_undo 24 = .ok (.bipush 44, 2) := dk_16 44 (dk_at dksX10_undo_1 0 rfl rfl)
theorem dX10_undo_26 : decode cX10_undo 26 = .ok (.iconst 4, 1) := dk_7 (dk_at dksX10_undo_1 2 rfl rfl)
theorem dX10_undo_27 : decode cX10_undo 27 = .ok (.aload_n 0, 1) := dk_42 (dk_at dksX10_undo_1 3 rfl rfl)
theorem dX10_undo_28 : decode cX10_undo 28 = .ok (.getfield 7, 3) := dk_180 0 7 (dk_at dksX10_undo_1 4 rfl rfl)
theorem dX10_undo_31 : decode cX10_undo 31 = .ok (.bipush 43, 2) := dk_16 43 (dk_at dksX10_undo_1 7 rfl rfl)
theorem dX10_undo_33 : decode cX10_undo 33 = .ok (.iaload, 1) := dk_46 (dk_at dksX10_undo_1 9 rfl rfl)
theorem dX10_undo_34 : decode cX10_undo 34 = .ok (.imul, 1) := dk_104 (dk_at dksX10_undo_1 10 rfl rfl)
theorem dX10_undo_35 : decode cX10_undo 35 = .ok (.iadd, 1) := dk_96 (dk_at dksX10_undo_1 11 rfl rfl)
theorem dX10_undo_36 : decode cX10_undo 36 = .ok (.istore_n 1, 1) := dk_60 (dk_at dksX10_undo_1 12 rfl rfl)
theorem dX10_undo_37 : decode cX10_undo 37 = .ok (.aload_n 0, 1) := dk_42 (dk_at dksX10_undo_1 13 rfl rfl)
theorem dX10_undo_38 : decode cX10_undo 38 = .ok (.getfield 7, 3) := dk_180 0 7 (dk_at dksX10_undo_1 14 rfl rfl)
theorem dX10_undo_41 : decode cX10_undo 41 = .ok (.iload_n 1, 1) := dk_27 (dk_at dksX10_undo_1 17 rfl rfl)
theorem dX10_undo_42 : decode cX10_undo 42 = .ok (.iaload, 1) := dk_46 (dk_at dksX10_undo_1 18 rfl rfl)
theorem dX10_undo_43 : decode cX10_undo 43 = .ok (.istore_n 2, 1) := dk_61 (dk_at dksX10_undo_1 19 rfl rfl)
theorem dX10_undo_44 : decode cX10_undo 44 = .ok (.aload_n 0, 1) := dk_42 (dk_at dksX10_undo_1 20 rfl rfl)
theorem dX10_undo_45 : decode cX10_undo 45 = .ok (.getfield 7, 3) := dk_180 0 7 (dk_at dksX10_undo_1 21 rfl rfl)
theorem dX10_undo_48 : decode cX10_undo 48 = .ok (.iload_n 1, 1) := dk_27 (dk_at dksX10_undo_2 0 rfl rfl)
theorem dX10_undo_49 : decode cX10_undo 49 = .ok (.iconst 1, 1) := dk_4 (dk_at dksX10_undo_2 1 rfl rfl)
theorem dX10_undo_50 : decode cX10_undo 50 = .ok (.iadd, 1) := dk_96 (dk_at dksX10_undo_2 2 rfl rfl)
theorem dX10_undo_51 : decode cX10_undo 51 = .ok (.iaload, 1) := dk_46 (dk_at dksX10_undo_2 3 rfl rfl)
theorem dX10_undo_52 : decode cX10_undo 52 = .ok (.istore_n 3, 1) := dk_62 (dk_at dksX10_undo_2 4 rfl rfl)
theorem dX10_undo_53 : decode cX10_undo 53 = .ok (.iload_n 2, 1) := dk_28 (dk_at dksX10_undo_2 5 rfl rfl)
theorem dX10_undo_54 : decode cX10_undo 54 = .ok (.ifCond .ne 43, 3) := dk_154 0 43 (dk_at dksX10_undo_2 6 rfl rfl)
theorem dX10_undo_57 : decode cX10_undo 57 = .ok (.aload_n 0, 1) := dk_42 (dk_at dksX10_undo_2 9 rfl rfl)
theorem dX10_undo_58 : decode cX10_undo 58 = .ok (.aload_n 0, 1) := dk_42 (dk_at dksX10_undo_2 10 rfl rfl)
theorem dX10_undo_59 : decode cX10_undo 59 = .ok (.getfield 7, 3) := dk_180 0 7 (dk_at dksX10_undo_2 11 rfl rfl)
theorem dX10_undo_62 : decode cX10_undo 62 = .ok (.iload_n 1, 1) := dk_27 (dk_at dksX10_undo_2 14 rfl rfl)
theorem dX10_undo_63 : decode cX10_undo 63 = .ok (.iconst 2, 1) := dk_5 (dk_at dksX10_undo_2 15 rfl rfl)
theorem dX10_undo_64 : decode cX10_undo 64 = .ok (.iadd, 1) := dk_96 (dk_at dksX10_undo_2 16 rfl rfl)
theorem dX10_undo_65 : decode cX10_undo 65 = .ok (.iaload, 1) := dk_46 (dk_at dksX10_undo_2 17 rfl rfl)
theorem dX10_undo_66 : decode cX10_undo 66 = .ok (.iload_n 3, 1) := dk_29 (dk_at dksX10_undo_2 18 rfl rfl)
theorem dX10_undo_67 : decode cX10_undo 67 = .ok (.invokevirtual 162, 3) := dk_182 0 162 (dk_at dksX10_undo_2 19 rfl rfl)
theorem dX10_undo_70 : decode cX10_undo 70 = .ok (.aload_n 0, 1) := dk_42 (dk_at dksX10_undo_2 22 rfl rfl)
theorem dX10_undo_71 : decode cX10_undo 71 = .ok (.getfield 7, 3) := dk_180 0 7 (dk_at dksX10_undo_3 0 rfl rfl)
theorem dX10_undo_74 : decode cX10_undo 74 = .ok (.iconst 3, 1) := dk_6 (dk_at dksX10_undo_3 3 rfl rfl)
theorem dX10_undo_75 : decode cX10_undo 75 = .ok (.iload_n 3, 1) := dk_29 (dk_at dksX10_undo_3 4 rfl rfl)
theorem dX10_undo_76 : decode cX10_undo 76 = .ok (.iadd, 1) := dk_96 (dk_at dksX10_undo_3 5 rfl rfl)
theorem dX10_undo_77 : decode cX10_undo 77 = .ok (.iconst 0, 1) := dk_3 (dk_at dksX10_undo_3 6 rfl rfl)
theorem dX10_undo_78 : decode cX10_undo 78 = .ok (.iastore, 1) := dk_79 (dk_at dksX10_undo_3 7 rfl rfl)
theorem dX10_undo_79 : decode cX10_undo 79 = .ok (.aload_n 0, 1) := dk_42 (dk_at dksX10_undo_3 8 rfl rfl)
theorem dX10_undo_80 : decode cX10_undo 80 = .ok (.getfield 7, 3) := dk_180 0 7 (dk_at dksX10_undo_3 9 rfl rfl)
theorem dX10_undo_83 : decode cX10_undo 83 = .ok (.bipush 11, 2) := dk_16 11 (dk_at dksX10_undo_3 12 rfl rfl)
theorem dX10_undo_85 : decode cX10_undo 85 = .ok (.iload_n 3, 1) := dk_29 (dk_at dksX10_undo_3 14 rfl rfl)
theorem dX10_undo_86 : decode cX10_undo 86 = .ok (.iadd, 1) := dk_96 (dk_at dksX10_undo_3 15 rfl rfl)
theorem dX10_undo_87 : decode cX10_undo 87 = .ok (.iconst 0, 1) := dk_3 (dk_at dksX10_undo_3 16 rfl rfl)
theorem dX10_undo_88 : decode cX10_undo 88 = .ok (.iastore, 1) := dk_79 (dk_at dksX10_undo_3 17 rfl rfl)
theorem dX10_undo_89 : decode cX10_undo 89 = .ok (.aload_n 0, 1) := dk_42 (dk_at dksX10_undo_3 18 rfl rfl)
theorem dX10_undo_90 : decode cX10_undo 90 = .ok (.getfield 7, 3) := dk_180 0 7 (dk_at dksX10_undo_3 19 rfl rfl)
theorem dX10_undo_93 : decode cX10_undo 93 = .ok (.bipush 43, 2) := dk_16 43 (dk_at dksX10_undo_3 22 rfl rfl)
theorem dX10_undo_95 : decode cX10_undo 95 = .ok (.iaload, 1) := dk_46 (dk_at dksX10_undo_4 0 rfl rfl)
theorem dX10_undo_96 : decode cX10_undo 96 = .ok (.ireturn, 1) := dk_172 (dk_at dksX10_undo_4 1 rfl rfl)
theorem dX10_undo_97 : decode cX10_undo 97 = .ok (.iload_n 2, 1) := dk_28 (dk_at dksX10_undo_4 2 rfl rfl)
theorem dX10_undo_98 : decode cX10_undo 98 = .ok (.iconst 3, 1) := dk_6 (dk_at dksX10_undo_4 3 rfl rfl)
theorem dX10_undo_99 : decode cX10_undo 99 = .ok (.if_icmp .ne 13, 3) := dk_160 0 13 (dk_at dksX10_undo_4 4 rfl rfl)
theorem dX10_undo_102 : decode cX10_undo 102 = .ok (.aload_n 0, 1) := dk_42 (dk_at dksX10_undo_4 7 rfl rfl)
theorem dX10_undo_103 : decode cX10_undo 103 = .ok (.aload_n 0, 1) := dk_42 (dk_at dksX10_undo_4 8 rfl rfl)
theorem dX10_undo_104 : decode cX10_undo 104 = .ok (.iload_n 3, 1) := dk_29 (dk_at dksX10_undo_4 9 rfl rfl)
theorem dX10_undo_105 : decode cX10_undo 105 = .ok (.invokevirtual 147, 3) := dk_182 0 147 (dk_at dksX10_undo_4 10 rfl rfl)
theorem dX10_undo_108 : decode cX10_undo 108 = .ok (.iload_n 3, 1) := dk_29 (dk_at dksX10_undo_4 13 rfl rfl)
theorem dX10_undo_109 : decode cX10_undo 109 = .ok (.invokevirtual 162, 3) := dk_182 0 162 (dk_at dksX10_undo_4 14 rfl rfl)
theorem dX10_undo_112 : decode cX10_undo 112 = .ok (.aload_n 0, 1) := dk_42 (dk_at dksX10_undo_4 17 rfl rfl)
theorem dX10_undo_113 : decode cX10_undo 113 = .ok (.aload_n 0, 1) := dk_42 (dk_at dksX10_undo_4 18 rfl rfl)
theorem dX10_undo_114 : decode cX10_undo 114 = .ok (.getfield 7, 3) := dk_180 0 7 (dk_at dksX10_undo_4 19 rfl rfl)
theorem dX10_undo_117 : decode cX10_undo 117 = .ok (.iload_n 1, 1) := dk_27 (dk_at dksX10_undo_4 22 rfl rfl)
theorem dX10_undo_118 : decode cX10_undo 118 = .ok (.iconst 2, 1) := dk_5 (dk_at dksX10_undo_4 23 rfl rfl)
theorem dX10_undo_119 : decode cX10_undo 119 = .ok (.iadd, 1) := dk_96 (dk_at dksX10_undo_5 0 rfl rfl)
theorem dX10_undo_120 : decode cX10_undo 120 = .ok (.iaload, 1) := dk_46 (dk_at dksX10_undo_5 1 rfl rfl)
theorem dX10_undo_121 : decode cX10_undo 121 = .ok (.aload_n 0, 1) := dk_42 (dk_at dksX10_undo_5 2 rfl rfl)
theorem dX10_undo_122 : decode cX10_undo 122 = .ok (.getfield 7, 3) := dk_180 0 7 (dk_at dksX10_undo_5 3 rfl rfl)
theorem dX10_undo_125 : decode cX10_undo 125 = .ok (.iload_n 1, 1) := dk_27 (dk_at dksX10_undo_5 6 rfl rfl)
theorem dX10_undo_126 : decode cX10_undo 126 = .ok (.iconst 3, 1) := dk_6 (dk_at dksX10_undo_5 7 rfl rfl)
theorem dX10_undo_127 : decode cX10_undo 127 = .ok (.iadd, 1) := dk_96 (dk_at dksX10_undo_5 8 rfl rfl)
theorem dX10_undo_128 : decode cX10_undo 128 = .ok (.iaload, 1) := dk_46 (dk_at dksX10_undo_5 9 rfl rfl)
theorem dX10_undo_129 : decode cX10_undo 129 = .ok (.iload_n 3, 1) := dk_29 (dk_at dksX10_undo_5 10 rfl rfl)
theorem dX10_undo_130 : decode cX10_undo 130 = .ok (.invokevirtual 154, 3) := dk_182 0 154 (dk_at dksX10_undo_5 11 rfl rfl)
theorem dX10_undo_133 : decode cX10_undo 133 = .ok (.aload_n 0, 1) := dk_42 (dk_at dksX10_undo_5 14 rfl rfl)
theorem dX10_undo_134 : decode cX10_undo 134 = .ok (.getfield 7, 3) := dk_180 0 7 (dk_at dksX10_undo_5 15 rfl rfl)
theorem dX10_undo_137 : decode cX10_undo 137 = .ok (.iconst 2, 1) := dk_5 (dk_at dksX10_undo_5 18 rfl rfl)
theorem dX10_undo_138 : decode cX10_undo 138 = .ok (.dup2, 1) := dk_92 (dk_at dksX10_undo_5 19 rfl rfl)
theorem dX10_undo_139 : decode cX10_undo 139 = .ok (.iaload, 1) := dk_46 (dk_at dksX10_undo_5 20 rfl rfl)
theorem dX10_undo_140 : decode cX10_undo 140 = .ok (.iload_n 2, 1) := dk_28 (dk_at dksX10_undo_5 21 rfl rfl)
theorem dX10_undo_141 : decode cX10_undo 141 = .ok (.iconst 2, 1) := dk_5 (dk_at dksX10_undo_5 22 rfl rfl)
theorem dX10_undo_142 : decode cX10_undo 142 = .ok (.if_icmp .ne 16, 3) := dk_160 0 16 (dk_at dksX10_undo_6 0 rfl rfl)
theorem dX10_undo_145 : decode cX10_undo 145 = .ok (.aload_n 0, 1) := dk_42 (dk_at dksX10_undo_6 3 rfl rfl)
theorem dX10_undo_146 : decode cX10_undo 146 = .ok (.getfield 26, 3) := dk_180 0 26 (dk_at dksX10_undo_6 4 rfl rfl)
theorem dX10_undo_149 : decode cX10_undo 149 = .ok (.iconst 5, 1) := dk_8 (dk_at dksX10_undo_6 7 rfl rfl)
theorem dX10_undo_150 : decode cX10_undo 150 = .ok (.iload_n 3, 1) := dk_29 (dk_at dksX10_undo_6 8 rfl rfl)
theorem dX10_undo_151 : decode cX10_undo 151 = .ok (.imul, 1) := dk_104 (dk_at dksX10_undo_6 9 rfl rfl)
theorem dX10_undo_152 : decode cX10_undo 152 = .ok (.iconst 3, 1) := dk_6 (dk_at dksX10_undo_6 10 rfl rfl)
theorem dX10_undo_153 : decode cX10_undo 153 = .ok (.iadd, 1) := dk_96 (dk_at dksX10_undo_6 11 rfl rfl)
theorem dX10_undo_154 : decode cX10_undo 154 = .ok (.iaload, 1) := dk_46 (dk_at dksX10_undo_6 12 rfl rfl)
theorem dX10_undo_155 : decode cX10_undo 155 = .ok (.goto 4, 3) := dk_167 0 4 (dk_at dksX10_undo_6 13 rfl rfl)
theorem dX10_undo_158 : decode cX10_undo 158 = .ok (.iconst 0, 1) := dk_3 (dk_at dksX10_undo_6 16 rfl rfl)
theorem dX10_undo_159 : decode cX10_undo 159 = .ok (.isub, 1) := dk_100 (dk_at dksX10_undo_6 17 rfl rfl)
theorem dX10_undo_160 : decode cX10_undo 160 = .ok (.iastore, 1) := dk_79 (dk_at dksX10_undo_6 18 rfl rfl)
theorem dX10_undo_161 : decode cX10_undo 161 = .ok (.aload_n 0, 1) := dk_42 (dk_at dksX10_undo_6 19 rfl rfl)
theorem dX10_undo_162 : decode cX10_undo 162 = .ok (.getfield 7, 3) := dk_180 0 7 (dk_at dksX10_undo_6 20 rfl rfl)
theorem dX10_undo_165 : decode cX10_undo 165 = .ok (.bipush 43, 2) := dk_16 43 (dk_at dksX10_undo_7 0 rfl rfl)
theorem dX10_undo_167 : decode cX10_undo 167 = .ok (.iaload, 1) := dk_46 (dk_at dksX10_undo_7 2 rfl rfl)
theorem dX10_undo_168 : decode cX10_undo 168 = .ok (.ireturn, 1) := dk_172 (dk_at dksX10_undo_7 3 rfl rfl)
abbrev cX10_day : ByteArray := prog_14_method_31_code
def yX10_day : MethodName := ⟨RX10, "day", "()I"⟩
def dkwX10_day_11 : List UInt8 := [180, 0, 7, 3, 92, 46, 4, 96, 79, 42, 180, 0, 7, 16, 43, 3, 79, 27, 172]
abbrev dktX10_day_11 : List UInt8 := dkwX10_day_11 ++ []
def dkwX10_day_10 : List UInt8 := [180, 0, 7, 3, 46, 160, 0, 12, 42, 180, 0, 7, 6, 28, 96, 6, 79, 132, 2, 1, 167, 255, 137, 42]
abbrev dktX10_day_10 : List UInt8 := dkwX10_day_10 ++ dktX10_day_11
def dkwX10_day_9 : List UInt8 := [42, 180, 0, 7, 6, 28, 96, 46, 154, 0, 31, 42, 180, 0, 26, 8, 28, 104, 4, 96, 46, 42]
abbrev dktX10_day_9 : List UInt8 := dkwX10_day_9 ++ dktX10_day_10
def dkwX10_day_8 : List UInt8 := [6, 28, 96, 6, 79, 42, 180, 0, 7, 5, 92, 46, 42, 180, 0, 26, 8, 28, 104, 6, 96, 46, 96, 79]
abbrev dktX10_day_8 : List UInt8 := dkwX10_day_8 ++ dktX10_day_9
def dkwX10_day_7 : List UInt8 := [46, 42, 180, 0, 7, 3, 46, 160, 0, 41, 42, 42, 28, 182, 0, 147, 28, 182, 0, 162, 42, 180, 0, 7]
abbrev dktX10_day_7 : List UInt8 := dkwX10_day_7 ++ dktX10_day_8
def dkwX10_day_6 : List UInt8 := [162, 0, 117, 42, 180, 0, 7, 6, 28, 96, 46, 4, 160, 0, 60, 42, 180, 0, 26, 8, 28, 104, 7, 96]
abbrev dktX10_day_6 : List UInt8 := dkwX10_day_6 ++ dktX10_day_7
def dkwX10_day_5 : List UInt8 := [79, 132, 1, 1, 132, 3, 1, 167, 255, 159, 132, 2, 1, 167, 255, 143, 3, 61, 28, 42, 180, 0, 71]
abbrev dktX10_day_5 : List UInt8 := dkwX10_day_5 ++ dktX10_day_6
def dkwX10_day_4 : List UInt8 := [21, 4, 96, 5, 79, 42, 180, 0, 7, 4, 92, 46, 42, 180, 0, 26, 8, 21, 4, 104, 6, 96, 46, 96]
abbrev dktX10_day_4 : List UInt8 := dkwX10_day_4 ++ dktX10_day_5
def dkwX10_day_3 : List UInt8 := [180, 0, 7, 16, 11, 21, 4, 96, 46, 154, 0, 43, 42, 28, 21, 4, 182, 0, 162, 42, 180, 0, 7, 6]
abbrev dktX10_day_3 : List UInt8 := dkwX10_day_3 ++ dktX10_day_4
def dkwX10_day_2 : List UInt8 := [16, 247, 160, 0, 6, 167, 0, 76, 42, 180, 0, 7, 16, 11, 21, 4, 96, 92, 46, 4, 100, 79, 42]
abbrev dktX10_day_2 : List UInt8 := dkwX10_day_2 ++ dktX10_day_3
def dkwX10_day_1 : List UInt8 := [162, 0, 111, 3, 62, 29, 42, 180, 0, 20, 28, 46, 162, 0, 93, 42, 28, 182, 0, 169, 54, 4, 21, 4]
abbrev dktX10_day_1 : List UInt8 := dkwX10_day_1 ++ dktX10_day_2
def dkwX10_day_0 : List UInt8 := [42, 180, 0, 7, 3, 46, 16, 10, 160, 0, 6, 16, 254, 172, 3, 60, 3, 61, 28, 42, 180, 0, 63]
abbrev dktX10_day_0 : List UInt8 := dkwX10_day_0 ++ dktX10_day_1
theorem dksX10_day_0 : cX10_day.data.toList.drop 0 = dktX10_day_0 := by decide +kernel
theorem dksX10_day_1 : cX10_day.data.toList.drop 23 = dktX10_day_1 := dk_seg dksX10_day_0 23 rfl rfl
theorem dksX10_day_2 : cX10_day.data.toList.drop 47 = dktX10_day_2 := dk_seg dksX10_day_1 24 rfl rfl
theorem dksX10_day_3 : cX10_day.data.toList.drop 70 = dktX10_day_3 := dk_seg dksX10_day_2 23 rfl rfl
theorem dksX10_day_4 : cX10_day.data.toList.drop 94 = dktX10_day_4 := dk_seg dksX10_day_3 24 rfl rfl
theorem dksX10_day_5 : cX10_day.data.toList.drop 118 = dktX10_day_5 := dk_seg dksX10_day_4 24 rfl rfl
theorem dksX10_day_6 : cX10_day.data.toList.drop 141 = dktX10_day_6 := dk_seg dksX10_day_5 23 rfl rfl
theorem dksX10_day_7 : cX10_day.data.toList.drop 165 = dktX10_day_7 := dk_seg dksX10_day_6 24 rfl rfl
theorem dksX10_day_8 : cX10_day.data.toList.drop 189 = dktX10_day_8 := dk_seg dksX10_day_7 24 rfl rfl
theorem dksX10_day_9 : cX10_day.data.toList.drop 213 = dktX10_day_9 := dk_seg dksX10_day_8 24 rfl rfl
theorem dksX10_day_10 : cX10_day.data.toList.drop 235 = dktX10_day_10 := dk_seg dksX10_day_9 22 rfl rfl
theorem dksX10_day_11 : cX10_day.data.toList.drop 259 = dktX10_day_11 := dk_seg dksX10_day_10 24 rfl rfl
theorem dX10_day_0 : decode cX10_day 0 = .ok (.aload_n 0, 1) := dk_42 (dk_at dksX10_day_0 0 rfl rfl)
theorem dX10_day_1 : decode cX10_day 1 = .ok (.getfield 7, 3) := dk_180 0 7 (dk_at dksX10_day_0 1 rfl rfl)
theorem dX10_day_4 : decode cX10_day 4 = .ok (.iconst 0, 1) := dk_3 (dk_at dksX10_day_0 4 rfl rfl)
theorem dX10_day_5 : decode cX10_day 5 = .ok (.iaload, 1) := dk_46 (dk_at dksX10_day_0 5 rfl rfl)
theorem dX10_day_6 : decode cX10_day 6 = .ok (.bipush 10, 2) := dk_16 10 (dk_at dksX10_day_0 6 rfl rfl)
theorem dX10_day_8 : decode cX10_day 8 = .ok (.if_icmp .ne 6, 3) := dk_160 0 6 (dk_at dksX10_day_0 8 rfl rfl)
theorem dX10_day_11 : decode cX10_day 11 = .ok (.bipush (-2), 2) := dk_16 254 (dk_at dksX10_day_0 11 rfl rfl)
theorem dX10_day_13 : decode cX10_day 13 = .ok (.ireturn, 1) := dk_172 (dk_at dksX10_day_0 13 rfl rfl)
theorem dX10_day_14 : decode cX10_day 14 = .ok (.iconst 0, 1) := dk_3 (dk_at dksX10_day_0 14 rfl rfl)
theorem dX10_day_15 : decode cX10_day 15 = .ok (.istore_n 1, 1) := dk_60 (dk_at dksX10_day_0 15 rfl rfl)
theorem dX10_day_16 : decode cX10_day 16 = .ok (.iconst 0, 1) := dk_3 (dk_at dksX10_day_0 16 rfl rfl)
theorem dX10_day_17 : decode cX10_day 17 = .ok (.istore_n 2, 1) := dk_61 (dk_at dksX10_day_0 17 rfl rfl)
theorem dX10_day_18 : decode cX10_day 18 = .ok (.iload_n 2, 1) := dk_28 (dk_at dksX10_day_0 18 rfl rfl)
theorem dX10_day_19 : decode cX10_day 19 = .ok (.aload_n 0, 1) := dk_42 (dk_at dksX10_day_0 19 rfl rfl)
theorem dX10_day_20 : decode cX10_day 20 = .ok (.getfield 63, 3) := dk_180 0 63 (dk_at dksX10_day_0 20 rfl rfl)
theorem dX10_day_23 : decode cX10_day 23 = .ok (.if_icmp .ge 111, 3) := dk_162 0 111 (dk_at dksX10_day_1 0 rfl rfl)
theorem dX10_day_26 : decode cX10_day 26 = .ok (.iconst 0, 1) := dk_3 (dk_at dksX10_day_1 3 rfl rfl)
theorem dX10_day_27 : decode cX10_day 27 = .ok (.istore_n 3, 1) := dk_62 (dk_at dksX10_day_1 4 rfl rfl)
theorem dX10_day_28 : decode cX10_day 28 = .ok (.iload_n 3, 1) := dk_29 (dk_at dksX10_day_1 5 rfl rfl)
theorem dX10_day_29 : decode cX10_day 29 = .ok (.aload_n 0, 1) := dk_42 (dk_at dksX10_day_1 6 rfl rfl)
theorem dX10_day_30 : decode cX10_day 30 = .ok (.getfield 20, 3) := dk_180 0 20 (dk_at dksX10_day_1 7 rfl rfl)
theorem dX10_day_33 : decode cX10_day 33 = .ok (.iload_n 2, 1) := dk_28 (dk_at dksX10_day_1 10 rfl rfl)
theorem dX10_day_34 : decode cX10_day 34 = .ok (.iaload, 1) := dk_46 (dk_at dksX10_day_1 11 rfl rfl)
theorem dX10_day_35 : decode cX10_day 35 = .ok (.if_icmp .ge 93, 3) := dk_162 0 93 (dk_at dksX10_day_1 12 rfl rfl)
theorem dX10_day_38 : decode cX10_day 38 = .ok (.aload_n 0, 1) := dk_42 (dk_at dksX10_day_1 15 rfl rfl)
theorem dX10_day_39 : decode cX10_day 39 = .ok (.iload_n 2, 1) := dk_28 (dk_at dksX10_day_1 16 rfl rfl)
theorem dX10_day_40 : decode cX10_day 40 = .ok (.invokevirtual 169, 3) := dk_182 0 169 (dk_at dksX10_day_1 17 rfl rfl)
theorem dX10_day_43 : decode cX10_day 43 = .ok (.istore 4, 2) := dk_54 4 (dk_at dksX10_day_1 20 rfl rfl)
theorem dX10_day_45 : decode cX10_day 45 = .ok (.iload 4, 2) := dk_21 4 (dk_at dksX10_day_1 22 rfl rfl)
theorem dX10_day_47 : decode cX10_day 47 = .ok (.bipush (-9), 2) := dk_16 247 (dk_at dksX10_day_2 0 rfl rfl)
theorem dX10_day_49 : decode cX10_day 49 = .ok (.if_icmp .ne 6, 3) := dk_160 0 6 (dk_at dksX10_day_2 2 rfl rfl)
theorem dX10_day_52 : decode cX10_day 52 = .ok (.goto 76, 3) := dk_167 0 76 (dk_at dksX10_day_2 5 rfl rfl)
theorem dX10_day_55 : decode cX10_day 55 = .ok (.aload_n 0, 1) := dk_42 (dk_at dksX10_day_2 8 rfl rfl)
theorem dX10_day_56 : decode cX10_day 56 = .ok (.getfield 7, 3) := dk_180 0 7 (dk_at dksX10_day_2 9 rfl rfl)
theorem dX10_day_59 : decode cX10_day 59 = .ok (.bipush 11, 2) := dk_16 11 (dk_at dksX10_day_2 12 rfl rfl)
theorem dX10_day_61 : decode cX10_day 61 = .ok (.iload 4, 2) := dk_21 4 (dk_at dksX10_day_2 14 rfl rfl)
theorem dX10_day_63 : decode cX10_day 63 = .ok (.iadd, 1) := dk_96 (dk_at dksX10_day_2 16 rfl rfl)
theorem dX10_day_64 : decode cX10_day 64 = .ok (.dup2, 1) := dk_92 (dk_at dksX10_day_2 17 rfl rfl)
theorem dX10_day_65 : decode cX10_day 65 = .ok (.iaload, 1) := dk_46 (dk_at dksX10_day_2 18 rfl rfl)
theorem dX10_day_66 : decode cX10_day 66 = .ok (.iconst 1, 1) := dk_4 (dk_at dksX10_day_2 19 rfl rfl)
theorem dX10_day_67 : decode cX10_day 67 = .ok (.isub, 1) := dk_100 (dk_at dksX10_day_2 20 rfl rfl)
theorem dX10_day_68 : decode cX10_day 68 = .ok (.iastore, 1) := dk_79 (dk_at dksX10_day_2 21 rfl rfl)
theorem dX10_day_69 : decode cX10_day 69 = .ok (.aload_n 0, 1) := dk_42 (dk_at dksX10_day_2 22 rfl rfl)
theorem dX10_day_70 : decode cX10_day 70 = .ok (.getfield 7, 3) := dk_180 0 7 (dk_at dksX10_day_3 0 rfl rfl)
theorem dX10_day_73 : decode cX10_day 73 = .ok (.bipush 11, 2) := dk_16 11 (dk_at dksX10_day_3 3 rfl rfl)
theorem dX10_day_75 : decode cX10_day 75 = .ok (.iload 4, 2) := dk_21 4 (dk_at dksX10_day_3 5 rfl rfl)
theorem dX10_day_77 : decode cX10_day 77 = .ok (.iadd, 1) := dk_96 (dk_at dksX10_day_3 7 rfl rfl)
theorem dX10_day_78 : decode cX10_day 78 = .ok (.iaload, 1) := dk_46 (dk_at dksX10_day_3 8 rfl rfl)
theorem dX10_day_79 : decode cX10_day 79 = .ok (.ifCond .ne 43, 3) := dk_154 0 43 (dk_at dksX10_day_3 9 rfl rfl)
theorem dX10_day_82 : decode cX10_day 82 = .ok (.aload_n 0, 1) := dk_42 (dk_at dksX10_day_3 12 rfl rfl)
theorem dX10_day_83 : decode cX10_day 83 = .ok (.iload_n 2, 1) := dk_28 (dk_at dksX10_day_3 13 rfl rfl)
theorem dX10_day_84 : decode cX10_day 84 = .ok (.iload 4, 2) := dk_21 4 (dk_at dksX10_day_3 14 rfl rfl)
theorem dX10_day_86 : decode cX10_day 86 = .ok (.invokevirtual 162, 3) := dk_182 0 162 (dk_at dksX10_day_3 16 rfl rfl)
theorem dX10_day_89 : decode cX10_day 89 = .ok (.aload_n 0, 1) := dk_42 (dk_at dksX10_day_3 19 rfl rfl)
theorem dX10_day_90 : decode cX10_day 90 = .ok (.getfield 7, 3) := dk_180 0 7 (dk_at dksX10_day_3 20 rfl rfl)
theorem dX10_day_93 : decode cX10_day 93 = .ok (.iconst 3, 1) := dk_6 (dk_at dksX10_day_3 23 rfl rfl)
theorem dX10_day_94 : decode cX10_day 94 = .ok (.iload 4, 2) := dk_21 4 (dk_at dksX10_day_4 0 rfl rfl)
theorem dX10_day_96 : decode cX10_day 96 = .ok (.iadd, 1) := dk_96 (dk_at dksX10_day_4 2 rfl rfl)
theorem dX10_day_97 : decode cX10_day 97 = .ok (.iconst 2, 1) := dk_5 (dk_at dksX10_day_4 3 rfl rfl)
theorem dX10_day_98 : decode cX10_day 98 = .ok (.iastore, 1) := dk_79 (dk_at dksX10_day_4 4 rfl rfl)
theorem dX10_day_99 : decode cX10_day 99 = .ok (.aload_n 0, 1) := dk_42 (dk_at dksX10_day_4 5 rfl rfl)
theorem dX10_day_100 : decode cX10_day 100 = .ok (.getfield 7, 3) := dk_180 0 7 (dk_at dksX10_day_4 6 rfl rfl)
theorem dX10_day_103 : decode cX10_day 103 = .ok (.iconst 1, 1) := dk_4 (dk_at dksX10_day_4 9 rfl rfl)
theorem dX10_day_104 : decode cX10_day 104 = .ok (.dup2, 1) := dk_92 (dk_at dksX10_day_4 10 rfl rfl)
theorem dX10_day_105 : decode cX10_day 105 = .ok (.iaload, 1) := dk_46 (dk_at dksX10_day_4 11 rfl rfl)
theorem dX10_day_106 : decode cX10_day 106 = .ok (.aload_n 0, 1) := dk_42 (dk_at dksX10_day_4 12 rfl rfl)
theorem dX10_day_107 : decode cX10_day 107 = .ok (.getfield 26, 3) := dk_180 0 26 (dk_at dksX10_day_4 13 rfl rfl)
theorem dX10_day_110 : decode cX10_day 110 = .ok (.iconst 5, 1) := dk_8 (dk_at dksX10_day_4 16 rfl rfl)
theorem dX10_day_111 : decode cX10_day 111 = .ok (.iload 4, 2) := dk_21 4 (dk_at dksX10_day_4 17 rfl rfl)
theorem dX10_day_113 : decode cX10_day 113 = .ok (.imul, 1) := dk_104 (dk_at dksX10_day_4 19 rfl rfl)
theorem dX10_day_114 : decode cX10_day 114 = .ok (.iconst 3, 1) := dk_6 (dk_at dksX10_day_4 20 rfl rfl)
theorem dX10_day_115 : decode cX10_day 115 = .ok (.iadd, 1) := dk_96 (dk_at dksX10_day_4 21 rfl rfl)
theorem dX10_day_116 : decode cX10_day 116 = .ok (.iaload, 1) := dk_46 (dk_at dksX10_day_4 22 rfl rfl)
theorem dX10_day_117 : decode cX10_day 117 = .ok (.iadd, 1) := dk_96 (dk_at dksX10_day_4 23 rfl rfl)
theorem dX10_day_118 : decode cX10_day 118 = .ok (.iastore, 1) := dk_79 (dk_at dksX10_day_5 0 rfl rfl)
theorem dX10_day_119 : decode cX10_day 119 = .ok (.iinc 1 1, 3) := dk_132 1 1 (dk_at dksX10_day_5 1 rfl rfl)
theorem dX10_day_122 : decode cX10_day 122 = .ok (.iinc 3 1, 3) := dk_132 3 1 (dk_at dksX10_day_5 4 rfl rfl)
theorem dX10_day_125 : decode cX10_day 125 = .ok (.goto (-97), 3) := dk_167 255 159 (dk_at dksX10_day_5 7 rfl rfl)
theorem dX10_day_128 : decode cX10_day 128 = .ok (.iinc 2 1, 3) := dk_132 2 1 (dk_at dksX10_day_5 10 rfl rfl)
theorem dX10_day_131 : decode cX10_day 131 = .ok (.goto (-113), 3) := dk_167 255 143 (dk_at dksX10_day_5 13 rfl rfl)
theorem dX10_day_134 : decode cX10_day 134 = .ok (.iconst 0, 1) := dk_3 (dk_at dksX10_day_5 16 rfl rfl)
theorem dX10_day_135 : decode cX10_day 135 = .ok (.istore_n 2, 1) := dk_61 (dk_at dksX10_day_5 17 rfl rfl)
theorem dX10_day_136 : decode cX10_day 136 = .ok (.iload_n 2, 1) := dk_28 (dk_at dksX10_day_5 18 rfl rfl)
theorem dX10_day_137 : decode cX10_day 137 = .ok (.aload_n 0, 1) := dk_42 (dk_at dksX10_day_5 19 rfl rfl)
theorem dX10_day_138 : decode cX10_day 138 = .ok (.getfield 71, 3) := dk_180 0 71 (dk_at dksX10_day_5 20 rfl rfl)
theorem dX10_day_141 : decode cX10_day 141 = .ok (.if_icmp .ge 117, 3) := dk_162 0 117 (dk_at dksX10_day_6 0 rfl rfl)
theorem dX10_day_144 : decode cX10_day 144 = .ok (.aload_n 0, 1) := dk_42 (dk_at dksX10_day_6 3 rfl rfl)
theorem dX10_day_145 : decode cX10_day 145 = .ok (.getfield 7, 3) := dk_180 0 7 (dk_at dksX10_day_6 4 rfl rfl)
theorem dX10_day_148 : decode cX10_day 148 = .ok (.iconst 3, 1) := dk_6 (dk_at dksX10_day_6 7 rfl rfl)
theorem dX10_day_149 : decode cX10_day 149 = .ok (.iload_n 2, 1) := dk_28 (dk_at dksX10_day_6 8 rfl rfl)
theorem dX10_day_150 : decode cX10_day 150 = .ok (.iadd, 1) := dk_96 (dk_at dksX10_day_6 9 rfl rfl)
theorem dX10_day_151 : decode cX10_day 151 = .ok (.iaload, 1) := dk_46 (dk_at dksX10_day_6 10 rfl rfl)
theorem dX10_day_152 : decode cX10_day 152 = .ok (.iconst 1, 1) := dk_4 (dk_at dksX10_day_6 11 rfl rfl)
theorem dX10_day_153 : decode cX10_day 153 = .ok (.if_icmp .ne 60, 3) := dk_160 0 60 (dk_at dksX10_day_6 12 rfl rfl)
theorem dX10_day_156 : decode cX10_day 156 = .ok (.aload_n 0, 1) := dk_42 (dk_at dksX10_day_6 15 rfl rfl)
theorem dX10_day_157 : decode cX10_day 157 = .ok (.getfield 26, 3) := dk_180 0 26 (dk_at dksX10_day_6 16 rfl rfl)
theorem dX10_day_160 : decode cX10_day 160 = .ok (.iconst 5, 1) := dk_8 (dk_at dksX10_day_6 19 rfl rfl)
theorem dX10_day_161 : decode cX10_day 161 = .ok (.iload_n 2, 1) := dk_28 (dk_at dksX10_day_6 20 rfl rfl)
theorem dX10_day_162 : decode cX10_day 162 = .ok (.imul, 1) := dk_104 (dk_at dksX10_day_6 21 rfl rfl)
theorem dX10_day_163 : decode cX10_day 163 = .ok (.iconst 4, 1) := dk_7 (dk_at dksX10_day_6 22 rfl rfl)
theorem dX10_day_164 : decode cX10_day 164 = .ok (.iadd, 1) := dk_96 (dk_at dksX10_day_6 23 rfl rfl)
theorem dX10_day_165 : decode cX10_day 165 = .ok (.iaload, 1) := dk_46 (dk_at dksX10_day_7 0 rfl rfl)
theorem dX10_day_166 : decode cX10_day 166 = .ok (.aload_n 0, 1) := dk_42 (dk_at dksX10_day_7 1 rfl rfl)
theorem dX10_day_167 : decode cX10_day 167 = .ok (.getfield 7, 3) := dk_180 0 7 (dk_at dksX10_day_7 2 rfl rfl)
theorem dX10_day_170 : decode cX10_day 170 = .ok (.iconst 0, 1) := dk_3 (dk_at dksX10_day_7 5 rfl rfl)
theorem dX10_day_171 : decode cX10_day 171 = .ok (.iaload, 1) := dk_46 (dk_at dksX10_day_7 6 rfl rfl)
theorem dX10_day_172 : decode cX10_day 172 = .ok (.if_icmp .ne 41, 3) := dk_160 0 41 (dk_at dksX10_day_7 7 rfl rfl)
theorem dX10_day_175 : decode cX10_day 175 = .ok (.aload_n 0, 1) := dk_42 (dk_at dksX10_day_7 10 rfl rfl)
theorem dX10_day_176 : decode cX10_day 176 = .ok (.aload_n 0, 1) := dk_42 (dk_at dksX10_day_7 11 rfl rfl)
theorem dX10_day_177 : decode cX10_day 177 = .ok (.iload_n 2, 1) := dk_28 (dk_at dksX10_day_7 12 rfl rfl)
theorem dX10_day_178 : decode cX10_day 178 = .ok (.invokevirtual 147, 3) := dk_182 0 147 (dk_at dksX10_day_7 13 rfl rfl)
theorem dX10_day_181 : decode cX10_day 181 = .ok (.iload_n 2, 1) := dk_28 (dk_at dksX10_day_7 16 rfl rfl)
theorem dX10_day_182 : decode cX10_day 182 = .ok (.invokevirtual 162, 3) := dk_182 0 162 (dk_at dksX10_day_7 17 rfl rfl)
theorem dX10_day_185 : decode cX10_day 185 = .ok (.aload_n 0, 1) := dk_42 (dk_at dksX10_day_7 20 rfl rfl)
theorem dX10_day_186 : decode cX10_day 186 = .ok (.getfield 7, 3) := dk_180 0 7 (dk_at dksX10_day_7 21 rfl rfl)
theorem dX10_day_189 : decode cX10_day 189 = .ok (.iconst 3, 1) := dk_6 (dk_at dksX10_day_8 0 rfl rfl)
theorem dX10_day_190 : decode cX10_day 190 = .ok (.iload_n 2, 1) := dk_28 (dk_at dksX10_day_8 1 rfl rfl)
theorem dX10_day_191 : decode cX10_day 191 = .ok (.iadd, 1) := dk_96 (dk_at dksX10_day_8 2 rfl rfl)
theorem dX10_day_192 : decode cX10_day 192 = .ok (.iconst 3, 1) := dk_6 (dk_at dksX10_day_8 3 rfl rfl)
theorem dX10_day_193 : decode cX10_day 193 = .ok (.iastore, 1) := dk_79 (dk_at dksX10_day_8 4 rfl rfl)
theorem dX10_day_194 : decode cX10_day 194 = .ok (.aload_n 0, 1) := dk_42 (dk_at dksX10_day_8 5 rfl rfl)
theorem dX10_day_195 : decode cX10_day 195 = .ok (.getfield 7, 3) := dk_180 0 7 (dk_at dksX10_day_8 6 rfl rfl)
theorem dX10_day_198 : decode cX10_day 198 = .ok (.iconst 2, 1) := dk_5 (dk_at dksX10_day_8 9 rfl rfl)
theorem dX10_day_199 : decode cX10_day 199 = .ok (.dup2, 1) := dk_92 (dk_at dksX10_day_8 10 rfl rfl)
theorem dX10_day_200 : decode cX10_day 200 = .ok (.iaload, 1) := dk_46 (dk_at dksX10_day_8 11 rfl rfl)
theorem dX10_day_201 : decode cX10_day 201 = .ok (.aload_n 0, 1) := dk_42 (dk_at dksX10_day_8 12 rfl rfl)
theorem dX10_day_202 : decode cX10_day 202 = .ok (.getfield 26, 3) := dk_180 0 26 (dk_at dksX10_day_8 13 rfl rfl)
theorem dX10_day_205 : decode cX10_day 205 = .ok (.iconst 5, 1) := dk_8 (dk_at dksX10_day_8 16 rfl rfl)
theorem dX10_day_206 : decode cX10_day 206 = .ok (.iload_n 2, 1) := dk_28 (dk_at dksX10_day_8 17 rfl rfl)
theorem dX10_day_207 : decode cX10_day 207 = .ok (.imul, 1) := dk_104 (dk_at dksX10_day_8 18 rfl rfl)
theorem dX10_day_208 : decode cX10_day 208 = .ok (.iconst 3, 1) := dk_6 (dk_at dksX10_day_8 19 rfl rfl)
theorem dX10_day_209 : decode cX10_day 209 = .ok (.iadd, 1) := dk_96 (dk_at dksX10_day_8 20 rfl rfl)
theorem dX10_day_210 : decode cX10_day 210 = .ok (.iaload, 1) := dk_46 (dk_at dksX10_day_8 21 rfl rfl)
theorem dX10_day_211 : decode cX10_day 211 = .ok (.iadd, 1) := dk_96 (dk_at dksX10_day_8 22 rfl rfl)
theorem dX10_day_212 : decode cX10_day 212 = .ok (.iastore, 1) := dk_79 (dk_at dksX10_day_8 23 rfl rfl)
theorem dX10_day_213 : decode cX10_day 213 = .ok (.aload_n 0, 1) := dk_42 (dk_at dksX10_day_9 0 rfl rfl)
theorem dX10_day_214 : decode cX10_day 214 = .ok (.getfield 7, 3) := dk_180 0 7 (dk_at dksX10_day_9 1 rfl rfl)
theorem dX10_day_217 : decode cX10_day 217 = .ok (.iconst 3, 1) := dk_6 (dk_at dksX10_day_9 4 rfl rfl)
theorem dX10_day_218 : decode cX10_day 218 = .ok (.iload_n 2, 1) := dk_28 (dk_at dksX10_day_9 5 rfl rfl)
theorem dX10_day_219 : decode cX10_day 219 = .ok (.iadd, 1) := dk_96 (dk_at dksX10_day_9 6 rfl rfl)
theorem dX10_day_220 : decode cX10_day 220 = .ok (.iaload, 1) := dk_46 (dk_at dksX10_day_9 7 rfl rfl)
theorem dX10_day_221 : decode cX10_day 221 = .ok (.ifCond .ne 31, 3) := dk_154 0 31 (dk_at dksX10_day_9 8 rfl rfl)
theorem dX10_day_224 : decode cX10_day 224 = .ok (.aload_n 0, 1) := dk_42 (dk_at dksX10_day_9 11 rfl rfl)
theorem dX10_day_225 : decode cX10_day 225 = .ok (.getfield 26, 3) := dk_180 0 26 (dk_at dksX10_day_9 12 rfl rfl)
theorem dX10_day_228 : decode cX10_day 228 = .ok (.iconst 5, 1) := dk_8 (dk_at dksX10_day_9 15 rfl rfl)
theorem dX10_day_229 : decode cX10_day 229 = .ok (.iload_n 2, 1) := dk_28 (dk_at dksX10_day_9 16 rfl rfl)
theorem dX10_day_230 : decode cX10_day 230 = .ok (.imul, 1) := dk_104 (dk_at dksX10_day_9 17 rfl rfl)
theorem dX10_day_231 : decode cX10_day 231 = .ok (.iconst 1, 1) := dk_4 (dk_at dksX10_day_9 18 rfl rfl)
theorem dX10_day_232 : decode cX10_day 232 = .ok (.iadd, 1) := dk_96 (dk_at dksX10_day_9 19 rfl rfl)
theorem dX10_day_233 : decode cX10_day 233 = .ok (.iaload, 1) := dk_46 (dk_at dksX10_day_9 20 rfl rfl)
theorem dX10_day_234 : decode cX10_day 234 = .ok (.aload_n 0, 1) := dk_42 (dk_at dksX10_day_9 21 rfl rfl)
theorem dX10_day_235 : decode cX10_day 235 = .ok (.getfield 7, 3) := dk_180 0 7 (dk_at dksX10_day_10 0 rfl rfl)
theorem dX10_day_238 : decode cX10_day 238 = .ok (.iconst 0, 1) := dk_3 (dk_at dksX10_day_10 3 rfl rfl)
theorem dX10_day_239 : decode cX10_day 239 = .ok (.iaload, 1) := dk_46 (dk_at dksX10_day_10 4 rfl rfl)
theorem dX10_day_240 : decode cX10_day 240 = .ok (.if_icmp .ne 12, 3) := dk_160 0 12 (dk_at dksX10_day_10 5 rfl rfl)
theorem dX10_day_243 : decode cX10_day 243 = .ok (.aload_n 0, 1) := dk_42 (dk_at dksX10_day_10 8 rfl rfl)
theorem dX10_day_244 : decode cX10_day 244 = .ok (.getfield 7, 3) := dk_180 0 7 (dk_at dksX10_day_10 9 rfl rfl)
theorem dX10_day_247 : decode cX10_day 247 = .ok (.iconst 3, 1) := dk_6 (dk_at dksX10_day_10 12 rfl rfl)
theorem dX10_day_248 : decode cX10_day 248 = .ok (.iload_n 2, 1) := dk_28 (dk_at dksX10_day_10 13 rfl rfl)
theorem dX10_day_249 : decode cX10_day 249 = .ok (.iadd, 1) := dk_96 (dk_at dksX10_day_10 14 rfl rfl)
theorem dX10_day_250 : decode cX10_day 250 = .ok (.iconst 3, 1) := dk_6 (dk_at dksX10_day_10 15 rfl rfl)
theorem dX10_day_251 : decode cX10_day 251 = .ok (.iastore, 1) := dk_79 (dk_at dksX10_day_10 16 rfl rfl)
theorem dX10_day_252 : decode cX10_day 252 = .ok (.iinc 2 1, 3) := dk_132 2 1 (dk_at dksX10_day_10 17 rfl rfl)
theorem dX10_day_255 : decode cX10_day 255 = .ok (.goto (-119), 3) := dk_167 255 137 (dk_at dksX10_day_10 20 rfl rfl)
theorem dX10_day_258 : decode cX10_day 258 = .ok (.aload_n 0, 1) := dk_42 (dk_at dksX10_day_10 23 rfl rfl)
theorem dX10_day_259 : decode cX10_day 259 = .ok (.getfield 7, 3) := dk_180 0 7 (dk_at dksX10_day_11 0 rfl rfl)
theorem dX10_day_262 : decode cX10_day 262 = .ok (.iconst 0, 1) := dk_3 (dk_at dksX10_day_11 3 rfl rfl)
theorem dX10_day_263 : decode cX10_day 263 = .ok (.dup2, 1) := dk_92 (dk_at dksX10_day_11 4 rfl rfl)
theorem dX10_day_264 : decode cX10_day 264 = .ok (.iaload, 1) := dk_46 (dk_at dksX10_day_11 5 rfl rfl)
theorem dX10_day_265 : decode cX10_day 265 = .ok (.iconst 1, 1) := dk_4 (dk_at dksX10_day_11 6 rfl rfl)
theorem dX10_day_266 : decode cX10_day 266 = .ok (.iadd, 1) := dk_96 (dk_at dksX10_day_11 7 rfl rfl)
theorem dX10_day_267 : decode cX10_day 267 = .ok (.iastore, 1) := dk_79 (dk_at dksX10_day_11 8 rfl rfl)
theorem dX10_day_268 : decode cX10_day 268 = .ok (.aload_n 0, 1) := dk_42 (dk_at dksX10_day_11 9 rfl rfl)
theorem dX10_day_269 : decode cX10_day 269 = .ok (.getfield 7, 3) := dk_180 0 7 (dk_at dksX10_day_11 10 rfl rfl)
theorem dX10_day_272 : decode cX10_day 272 = .ok (.bipush 43, 2) := dk_16 43 (dk_at dksX10_day_11 13 rfl rfl)
theorem dX10_day_274 : decode cX10_day 274 = .ok (.iconst 0, 1) := dk_3 (dk_at dksX10_day_11 15 rfl rfl)
theorem dX10_day_275 : decode cX10_day 275 = .ok (.iastore, 1) := dk_79 (dk_at dksX10_day_11 16 rfl rfl)
theorem dX10_day_276 : decode cX10_day 276 = .ok (.iload_n 1, 1) := dk_27 (dk_at dksX10_day_11 17 rfl rfl)
theorem dX10_day_277 : decode cX10_day 277 = .ok (.ireturn, 1) := dk_172 (dk_at dksX10_day_11 18 rfl rfl)
abbrev cX10_firstFree : ByteArray := prog_14_method_30_code
def yX10_firstFree : MethodName := ⟨RX10, "firstFree", "(I)I"⟩
def dkwX10_firstFree_2 : List UInt8 := [172, 132, 2, 1, 167, 255, 206, 16, 247, 172]
abbrev dktX10_firstFree_2 : List UInt8 := dkwX10_firstFree_2 ++ []
def dkwX10_firstFree_1 : List UInt8 := [104, 96, 28, 96, 46, 182, 0, 166, 153, 0, 17, 42, 180, 0, 7, 16, 23, 8, 27, 104, 96, 28, 96, 46]
abbrev dktX10_firstFree_1 : List UInt8 := dkwX10_firstFree_1 ++ dktX10_firstFree_2
def dkwX10_firstFree_0 : List UInt8 := [3, 61, 28, 42, 180, 0, 7, 16, 19, 27, 96, 46, 162, 0, 43, 42, 42, 180, 0, 7, 16, 23, 8, 27]
abbrev dktX10_firstFree_0 : List UInt8 := dkwX10_firstFree_0 ++ dktX10_firstFree_1
theorem dksX10_firstFree_0 : cX10_firstFree.data.toList.drop 0 = dktX10_firstFree_0 := by decide +kernel
theorem dksX10_firstFree_1 : cX10_firstFree.data.toList.drop 24 = dktX10_firstFree_1 := dk_seg dksX10_firstFree_0 24 rfl rfl
theorem dksX10_firstFree_2 : cX10_firstFree.data.toList.drop 48 = dktX10_firstFree_2 := dk_seg dksX10_firstFree_1 24 rfl rfl
theorem dX10_firstFree_0 : decode cX10_firstFree 0 = .ok (.iconst 0, 1) := dk_3 (dk_at dksX10_firstFree_0 0 rfl rfl)
theorem dX10_firstFree_1 : decode cX10_firstFree 1 = .ok (.istore_n 2, 1) := dk_61 (dk_at dksX10_firstFree_0 1 rfl rfl)
theorem dX10_firstFree_2 : decode cX10_firstFree 2 = .ok (.iload_n 2, 1) := dk_28 (dk_at dksX10_firstFree_0 2 rfl rfl)
theorem dX10_firstFree_3 : decode cX10_firstFree 3 = .ok (.aload_n 0, 1) := dk_42 (dk_at dksX10_firstFree_0 3 rfl rfl)
theorem dX10_firstFree_4 : decode cX10_firstFree 4 = .ok (.getfield 7, 3) := dk_180 0 7 (dk_at dksX10_firstFree_0 4 rfl rfl)
theorem dX10_firstFree_7 : decode cX10_firstFree 7 = .ok (.bipush 19, 2) := dk_16 19 (dk_at dksX10_firstFree_0 7 rfl rfl)
theorem dX10_firstFree_9 : decode cX10_firstFree 9 = .ok (.iload_n 1, 1) := dk_27 (dk_at dksX10_firstFree_0 9 rfl rfl)
theorem dX10_firstFree_10 : decode cX10_firstFree 10 = .ok (.iadd, 1) := dk_96 (dk_at dksX10_firstFree_0 10 rfl rfl)
theorem dX10_firstFree_11 : decode cX10_firstFree 11 = .ok (.iaload, 1) := dk_46 (dk_at dksX10_firstFree_0 11 rfl rfl)
theorem dX10_firstFree_12 : decode cX10_firstFree 12 = .ok (.if_icmp .ge 43, 3) := dk_162 0 43 (dk_at dksX10_firstFree_0 12 rfl rfl)
theorem dX10_firstFree_15 : decode cX10_firstFree 15 = .ok (.aload_n 0, 1) := dk_42 (dk_at dksX10_firstFree_0 15 rfl rfl)
theorem dX10_firstFree_16 : decode cX10_firstFree 16 = .ok (.aload_n 0, 1) := dk_42 (dk_at dksX10_firstFree_0 16 rfl rfl)
theorem dX10_firstFree_17 : decode cX10_firstFree 17 = .ok (.getfield 7, 3) := dk_180 0 7 (dk_at dksX10_firstFree_0 17 rfl rfl)
theorem dX10_firstFree_20 : decode cX10_firstFree 20 = .ok (.bipush 23, 2) := dk_16 23 (dk_at dksX10_firstFree_0 20 rfl rfl)
theorem dX10_firstFree_22 : decode cX10_firstFree 22 = .ok (.iconst 5, 1) := dk_8 (dk_at dksX10_firstFree_0 22 rfl rfl)
theorem dX10_firstFree_23 : decode cX10_firstFree 23 = .ok (.iload_n 1, 1) := dk_27 (dk_at dksX10_firstFree_0 23 rfl rfl)
theorem dX10_firstFree_24 : decode cX10_firstFree 24 = .ok (.imul, 1) := dk_104 (dk_at dksX10_firstFree_1 0 rfl rfl)
theorem dX10_firstFree_25 : decode cX10_firstFree 25 = .ok (.iadd, 1) := dk_96 (dk_at dksX10_firstFree_1 1 rfl rfl)
theorem dX10_firstFree_26 : decode cX10_firstFree 26 = .ok (.iload_n 2, 1) := dk_28 (dk_at dksX10_firstFree_1 2 rfl rfl)
theorem dX10_firstFree_27 : decode cX10_firstFree 27 = .ok (.iadd, 1) := dk_96 (dk_at dksX10_firstFree_1 3 rfl rfl)
theorem dX10_firstFree_28 : decode cX10_firstFree 28 = .ok (.iaload, 1) := dk_46 (dk_at dksX10_firstFree_1 4 rfl rfl)
theorem dX10_firstFree_29 : decode cX10_firstFree 29 = .ok (.invokevirtual 166, 3) := dk_182 0 166 (dk_at dksX10_firstFree_1 5 rfl rfl)
theorem dX10_firstFree_32 : decode cX10_firstFree 32 = .ok (.ifCond .eq 17, 3) := dk_153 0 17 (dk_at dksX10_firstFree_1 8 rfl rfl)
theorem dX10_firstFree_35 : decode cX10_firstFree 35 = .ok (.aload_n 0, 1) := dk_42 (dk_at dksX10_firstFree_1 11 rfl rfl)
theorem dX10_firstFree_36 : decode cX10_firstFree 36 = .ok (.getfield 7, 3) := dk_180 0 7 (dk_at dksX10_firstFree_1 12 rfl rfl)
theorem dX10_firstFree_39 : decode cX10_firstFree 39 = .ok (.bipush 23, 2) := dk_16 23 (dk_at dksX10_firstFree_1 15 rfl rfl)
theorem dX10_firstFree_41 : decode cX10_firstFree 41 = .ok (.iconst 5, 1) := dk_8 (dk_at dksX10_firstFree_1 17 rfl rfl)
theorem dX10_firstFree_42 : decode cX10_firstFree 42 = .ok (.iload_n 1, 1) := dk_27 (dk_at dksX10_firstFree_1 18 rfl rfl)
theorem dX10_firstFree_43 : decode cX10_firstFree 43 = .ok (.imul, 1) := dk_104 (dk_at dksX10_firstFree_1 19 rfl rfl)
theorem dX10_firstFree_44 : decode cX10_firstFree 44 = .ok (.iadd, 1) := dk_96 (dk_at dksX10_firstFree_1 20 rfl rfl)
theorem dX10_firstFree_45 : decode cX10_firstFree 45 = .ok (.iload_n 2, 1) := dk_28 (dk_at dksX10_firstFree_1 21 rfl rfl)
theorem dX10_firstFree_46 : decode cX10_firstFree 46 = .ok (.iadd, 1) := dk_96 (dk_at dksX10_firstFree_1 22 rfl rfl)
theorem dX10_firstFree_47 : decode cX10_firstFree 47 = .ok (.iaload, 1) := dk_46 (dk_at dksX10_firstFree_1 23 rfl rfl)
theorem dX10_firstFree_48 : decode cX10_firstFree 48 = .ok (.ireturn, 1) := dk_172 (dk_at dksX10_firstFree_2 0 rfl rfl)
theorem dX10_firstFree_49 : decode cX10_firstFree 49 = .ok (.iinc 2 1, 3) := dk_132 2 1 (dk_at dksX10_firstFree_2 1 rfl rfl)
theorem dX10_firstFree_52 : decode cX10_firstFree 52 = .ok (.goto (-50), 3) := dk_167 255 206 (dk_at dksX10_firstFree_2 4 rfl rfl)
theorem dX10_firstFree_55 : decode cX10_firstFree 55 = .ok (.bipush (-9), 2) := dk_16 247 (dk_at dksX10_firstFree_2 7 rfl rfl)
theorem dX10_firstFree_57 : decode cX10_firstFree 57 = .ok (.ireturn, 1) := dk_172 (dk_at dksX10_firstFree_2 9 rfl rfl)
abbrev cX10_isFree : ByteArray := prog_14_method_29_code
def yX10_isFree : MethodName := ⟨RX10, "isFree", "(I)Z"⟩
def dkwX10_isFree_2 : List UInt8 := [160, 0, 7, 4, 167, 0, 4, 3, 61, 132, 3, 1, 167, 255, 202, 28, 172]
abbrev dktX10_isFree_2 : List UInt8 := dkwX10_isFree_2 ++ []
def dkwX10_isFree_1 : List UInt8 := [27, 160, 0, 24, 42, 180, 0, 7, 6, 42, 180, 0, 29, 5, 29, 104, 4, 96, 46, 96, 46, 5]
abbrev dktX10_isFree_1 : List UInt8 := dkwX10_isFree_1 ++ dktX10_isFree_2
def dkwX10_isFree_0 : List UInt8 := [4, 61, 3, 62, 29, 42, 180, 0, 133, 162, 0, 52, 28, 153, 0, 40, 42, 180, 0, 29, 5, 29, 104, 46]
abbrev dktX10_isFree_0 : List UInt8 := dkwX10_isFree_0 ++ dktX10_isFree_1
theorem dksX10_isFree_0 : cX10_isFree.data.toList.drop 0 = dktX10_isFree_0 := by decide +kernel
theorem dksX10_isFree_1 : cX10_isFree.data.toList.drop 24 = dktX10_isFree_1 := dk_seg dksX10_isFree_0 24 rfl rfl
theorem dksX10_isFree_2 : cX10_isFree.data.toList.drop 46 = dktX10_isFree_2 := dk_seg dksX10_isFree_1 22 rfl rfl
theorem dX10_isFree_0 : decode cX10_isFree 0 = .ok (.iconst 1, 1) := dk_4 (dk_at dksX10_isFree_0 0 rfl rfl)
theorem dX10_isFree_1 : decode cX10_isFree 1 = .ok (.istore_n 2, 1) := dk_61 (dk_at dksX10_isFree_0 1 rfl rfl)
theorem dX10_isFree_2 : decode cX10_isFree 2 = .ok (.iconst 0, 1) := dk_3 (dk_at dksX10_isFree_0 2 rfl rfl)
theorem dX10_isFree_3 : decode cX10_isFree 3 = .ok (.istore_n 3, 1) := dk_62 (dk_at dksX10_isFree_0 3 rfl rfl)
theorem dX10_isFree_4 : decode cX10_isFree 4 = .ok (.iload_n 3, 1) := dk_29 (dk_at dksX10_isFree_0 4 rfl rfl)
theorem dX10_isFree_5 : decode cX10_isFree 5 = .ok (.aload_n 0, 1) := dk_42 (dk_at dksX10_isFree_0 5 rfl rfl)
theorem dX10_isFree_6 : decode cX10_isFree 6 = .ok (.getfield 133, 3) := dk_180 0 133 (dk_at dksX10_isFree_0 6 rfl rfl)
theorem dX10_isFree_9 : decode cX10_isFree 9 = .ok (.if_icmp .ge 52, 3) := dk_162 0 52 (dk_at dksX10_isFree_0 9 rfl rfl)
theorem dX10_isFree_12 : decode cX10_isFree 12 = .ok (.iload_n 2, 1) := dk_28 (dk_at dksX10_isFree_0 12 rfl rfl)
theorem dX10_isFree_13 : decode cX10_isFree 13 = .ok (.ifCond .eq 40, 3) := dk_153 0 40 (dk_at dksX10_isFree_0 13 rfl rfl)
theorem dX10_isFree_16 : decode cX10_isFree 16 = .ok (.aload_n 0, 1) := dk_42 (dk_at dksX10_isFree_0 16 rfl rfl)
theorem dX10_isFree_17 : decode cX10_isFree 17 = .ok (.getfield 29, 3) := dk_180 0 29 (dk_at dksX10_isFree_0 17 rfl rfl)
theorem dX10_isFree_20 : decode cX10_isFree 20 = .ok (.iconst 2, 1) := dk_5 (dk_at dksX10_isFree_0 20 rfl rfl)
theorem dX10_isFree_21 : decode cX10_isFree 21 = .ok (.iload_n 3, 1) := dk_29 (dk_at dksX10_isFree_0 21 rfl rfl)
theorem dX10_isFree_22 : decode cX10_isFree 22 = .ok (.imul, 1) := dk_104 (dk_at dksX10_isFree_0 22 rfl rfl)
theorem dX10_isFree_23 : decode cX10_isFree 23 = .ok (.iaload, 1) := dk_46 (dk_at dksX10_isFree_0 23 rfl rfl)
theorem dX10_isFree_24 : decode cX10_isFree 24 = .ok (.iload_n 1, 1) := dk_27 (dk_at dksX10_isFree_1 0 rfl rfl)
theorem dX10_isFree_25 : decode cX10_isFree 25 = .ok (.if_icmp .ne 24, 3) := dk_160 0 24 (dk_at dksX10_isFree_1 1 rfl rfl)
theorem dX10_isFree_28 : decode cX10_isFree 28 = .ok (.aload_n 0, 1) := dk_42 (dk_at dksX10_isFree_1 4 rfl rfl)
theorem dX10_isFree_29 : decode cX10_isFree 29 = .ok (.getfield 7, 3) := dk_180 0 7 (dk_at dksX10_isFree_1 5 rfl rfl)
theorem dX10_isFree_32 : decode cX10_isFree 32 = .ok (.iconst 3, 1) := dk_6 (dk_at dksX10_isFree_1 8 rfl rfl)
theorem dX10_isFree_33 : decode cX10_isFree 33 = .ok (.aload_n 0, 1) := dk_42 (dk_at dksX10_isFree_1 9 rfl rfl)
theorem dX10_isFree_34 : decode cX10_isFree 34 = .ok (.getfield 29, 3) := dk_180 0 29 (dk_at dksX10_isFree_1 10 rfl rfl)
theorem dX10_isFree_37 : decode cX10_isFree 37 = .ok (.iconst 2, 1) := dk_5 (dk_at dksX10_isFree_1 13 rfl rfl)
theorem dX10_isFree_38 : decode cX10_isFree 38 = .ok (.iload_n 3, 1) := dk_29 (dk_at dksX10_isFree_1 14 rfl rfl)
theorem dX10_isFree_39 : decode cX10_isFree 39 = .ok (.imul, 1) := dk_104 (dk_at dksX10_isFree_1 15 rfl rfl)
theorem dX10_isFree_40 : decode cX10_isFree 40 = .ok (.iconst 1, 1) := dk_4 (dk_at dksX10_isFree_1 16 rfl rfl)
theorem dX10_isFree_41 : decode cX10_isFree 41 = .ok (.iadd, 1) := dk_96 (dk_at dksX10_isFree_1 17 rfl rfl)
theorem dX10_isFree_42 : decode cX10_isFree 42 = .ok (.iaload, 1) := dk_46 (dk_at dksX10_isFree_1 18 rfl rfl)
theorem dX10_isFree_43 : decode cX10_isFree 43 = .ok (.iadd, 1) := dk_96 (dk_at dksX10_isFree_1 19 rfl rfl)
theorem dX10_isFree_44 : decode cX10_isFree 44 = .ok (.iaload, 1) := dk_46 (dk_at dksX10_isFree_1 20 rfl rfl)
theorem dX10_isFree_45 : decode cX10_isFree 45 = .ok (.iconst 2, 1) := dk_5 (dk_at dksX10_isFree_1 21 rfl rfl)
theorem dX10_isFree_46 : decode cX10_isFree 46 = .ok (.if_icmp .ne 7, 3) := dk_160 0 7 (dk_at dksX10_isFree_2 0 rfl rfl)
theorem dX10_isFree_49 : decode cX10_isFree 49 = .ok (.iconst 1, 1) := dk_4 (dk_at dksX10_isFree_2 3 rfl rfl)
theorem dX10_isFree_50 : decode cX10_isFree 50 = .ok (.goto 4, 3) := dk_167 0 4 (dk_at dksX10_isFree_2 4 rfl rfl)
theorem dX10_isFree_53 : decode cX10_isFree 53 = .ok (.iconst 0, 1) := dk_3 (dk_at dksX10_isFree_2 7 rfl rfl)
theorem dX10_isFree_54 : decode cX10_isFree 54 = .ok (.istore_n 2, 1) := dk_61 (dk_at dksX10_isFree_2 8 rfl rfl)
theorem dX10_isFree_55 : decode cX10_isFree 55 = .ok (.iinc 3 1, 3) := dk_132 3 1 (dk_at dksX10_isFree_2 9 rfl rfl)
theorem dX10_isFree_58 : decode cX10_isFree 58 = .ok (.goto (-54), 3) := dk_167 255 202 (dk_at dksX10_isFree_2 12 rfl rfl)
theorem dX10_isFree_61 : decode cX10_isFree 61 = .ok (.iload_n 2, 1) := dk_28 (dk_at dksX10_isFree_2 15 rfl rfl)
theorem dX10_isFree_62 : decode cX10_isFree 62 = .ok (.ireturn, 1) := dk_172 (dk_at dksX10_isFree_2 16 rfl rfl)
abbrev cX10_now : ByteArray := prog_14_method_33_code
def yX10_now : MethodName := ⟨RX10, "now", "(I)I"⟩
def dkwX10_now_3 : List UInt8 := [182, 0, 172, 172, 42, 180, 0, 7, 16, 43, 46, 172, 2, 172]
abbrev dktX10_now_3 : List UInt8 := dkwX10_now_3 ++ []
def dkwX10_now_2 : List UInt8 := [42, 180, 0, 7, 3, 46, 172, 42, 180, 0, 7, 4, 46, 172, 42, 180, 0, 7, 5, 46, 172, 42]
abbrev dktX10_now_2 : List UInt8 := dkwX10_now_2 ++ dktX10_now_3
def dkwX10_now_1 : List UInt8 := [170, 0, 0, 0, 0, 0, 69, 0, 0, 0, 0, 0, 0, 0, 4, 0, 0, 0, 35, 0, 0, 0, 42, 0, 0, 0, 49, 0, 0, 0, 56, 0, 0, 0, 61]
abbrev dktX10_now_1 : List UInt8 := dkwX10_now_1 ++ dktX10_now_2
def dkwX10_now_0 : List UInt8 := [27]
abbrev dktX10_now_0 : List UInt8 := dkwX10_now_0 ++ dktX10_now_1
theorem dksX10_now_0 : cX10_now.data.toList.drop 0 = dktX10_now_0 := by decide +kernel
theorem dksX10_now_1 : cX10_now.data.toList.drop 1 = dktX10_now_1 := dk_seg dksX10_now_0 1 rfl rfl
theorem dksX10_now_2 : cX10_now.data.toList.drop 36 = dktX10_now_2 := dk_seg dksX10_now_1 35 rfl rfl
theorem dksX10_now_3 : cX10_now.data.toList.drop 58 = dktX10_now_3 := dk_seg dksX10_now_2 22 rfl rfl
theorem dX10_now_0 : decode cX10_now 0 = .ok (.iload_n 1, 1) := dk_27 (dk_at dksX10_now_0 0 rfl rfl)
theorem dX10_now_1 : decode cX10_now 1 = .ok (.tableswitch 69 0 4 #[35, 42, 49, 56, 61], 35) := by decide +kernel
theorem dX10_now_36 : decode cX10_now 36 = .ok (.aload_n 0, 1) := dk_42 (dk_at dksX10_now_2 0 rfl rfl)
theorem dX10_now_37 : decode cX10_now 37 = .ok (.getfield 7, 3) := dk_180 0 7 (dk_at dksX10_now_2 1 rfl rfl)
theorem dX10_now_40 : decode cX10_now 40 = .ok (.iconst 0, 1) := dk_3 (dk_at dksX10_now_2 4 rfl rfl)
theorem dX10_now_41 : decode cX10_now 41 = .ok (.iaload, 1) := dk_46 (dk_at dksX10_now_2 5 rfl rfl)
theorem dX10_now_42 : decode cX10_now 42 = .ok (.ireturn, 1) := dk_172 (dk_at dksX10_now_2 6 rfl rfl)
theorem dX10_now_43 : decode cX10_now 43 = .ok (.aload_n 0, 1) := dk_42 (dk_at dksX10_now_2 7 rfl rfl)
theorem dX10_now_44 : decode cX10_now 44 = .ok (.getfield 7, 3) := dk_180 0 7 (dk_at dksX10_now_2 8 rfl rfl)
theorem dX10_now_47 : decode cX10_now 47 = .ok (.iconst 1, 1) := dk_4 (dk_at dksX10_now_2 11 rfl rfl)
theorem dX10_now_48 : decode cX10_now 48 = .ok (.iaload, 1) := dk_46 (dk_at dksX10_now_2 12 rfl rfl)
theorem dX10_now_49 : decode cX10_now 49 = .ok (.ireturn, 1) := dk_172 (dk_at dksX10_now_2 13 rfl rfl)
theorem dX10_now_50 : decode cX10_now 50 = .ok (.aload_n 0, 1) := dk_42 (dk_at dksX10_now_2 14 rfl rfl)
theorem dX10_now_51 : decode cX10_now 51 = .ok (.getfield 7, 3) := dk_180 0 7 (dk_at dksX10_now_2 15 rfl rfl)
theorem dX10_now_54 : decode cX10_now 54 = .ok (.iconst 2, 1) := dk_5 (dk_at dksX10_now_2 18 rfl rfl)
theorem dX10_now_55 : decode cX10_now 55 = .ok (.iaload, 1) := dk_46 (dk_at dksX10_now_2 19 rfl rfl)
theorem dX10_now_56 : decode cX10_now 56 = .ok (.ireturn, 1) := dk_172 (dk_at dksX10_now_2 20 rfl rfl)
theorem dX10_now_57 : decode cX10_now 57 = .ok (.aload_n 0, 1) := dk_42 (dk_at dksX10_now_2 21 rfl rfl)
theorem dX10_now_58 : decode cX10_now 58 = .ok (.invokevirtual 172, 3) := dk_182 0 172 (dk_at dksX10_now_3 0 rfl rfl)
theorem dX10_now_61 : decode cX10_now 61 = .ok (.ireturn, 1) := dk_172 (dk_at dksX10_now_3 3 rfl rfl)
theorem dX10_now_62 : decode cX10_now 62 = .ok (.aload_n 0, 1) := dk_42 (dk_at dksX10_now_3 4 rfl rfl)
theorem dX10_now_63 : decode cX10_now 63 = .ok (.getfield 7, 3) := dk_180 0 7 (dk_at dksX10_now_3 5 rfl rfl)
theorem dX10_now_66 : decode cX10_now 66 = .ok (.bipush 43, 2) := dk_16 43 (dk_at dksX10_now_3 8 rfl rfl)
theorem dX10_now_68 : decode cX10_now 68 = .ok (.iaload, 1) := dk_46 (dk_at dksX10_now_3 10 rfl rfl)
theorem dX10_now_69 : decode cX10_now 69 = .ok (.ireturn, 1) := dk_172 (dk_at dksX10_now_3 11 rfl rfl)
theorem dX10_now_70 : decode cX10_now 70 = .ok (.iconst (-1), 1) := dk_2 (dk_at dksX10_now_3 12 rfl rfl)
theorem dX10_now_71 : decode cX10_now 71 = .ok (.ireturn, 1) := dk_172 (dk_at dksX10_now_3 13 rfl rfl)
abbrev cX10_slips : ByteArray := prog_14_method_32_code
def yX10_slips : MethodName := ⟨RX10, "slips", "()I"⟩
def dkwX10_slips_1 : List UInt8 := [132, 2, 1, 167, 255, 233, 27, 172]
abbrev dktX10_slips_1 : List UInt8 := dkwX10_slips_1 ++ []
def dkwX10_slips_0 : List UInt8 := [3, 60, 3, 61, 28, 42, 180, 0, 63, 162, 0, 21, 27, 42, 180, 0, 7, 16, 19, 28, 96, 46, 96, 60]
abbrev dktX10_slips_0 : List UInt8 := dkwX10_slips_0 ++ dktX10_slips_1
theorem dksX10_slips_0 : cX10_slips.data.toList.drop 0 = dktX10_slips_0 := by decide +kernel
theorem dksX10_slips_1 : cX10_slips.data.toList.drop 24 = dktX10_slips_1 := dk_seg dksX10_slips_0 24 rfl rfl
theorem dX10_slips_0 : decode cX10_slips 0 = .ok (.iconst 0, 1) := dk_3 (dk_at dksX10_slips_0 0 rfl rfl)
theorem dX10_slips_1 : decode cX10_slips 1 = .ok (.istore_n 1, 1) := dk_60 (dk_at dksX10_slips_0 1 rfl rfl)
theorem dX10_slips_2 : decode cX10_slips 2 = .ok (.iconst 0, 1) := dk_3 (dk_at dksX10_slips_0 2 rfl rfl)
theorem dX10_slips_3 : decode cX10_slips 3 = .ok (.istore_n 2, 1) := dk_61 (dk_at dksX10_slips_0 3 rfl rfl)
theorem dX10_slips_4 : decode cX10_slips 4 = .ok (.iload_n 2, 1) := dk_28 (dk_at dksX10_slips_0 4 rfl rfl)
theorem dX10_slips_5 : decode cX10_slips 5 = .ok (.aload_n 0, 1) := dk_42 (dk_at dksX10_slips_0 5 rfl rfl)
theorem dX10_slips_6 : decode cX10_slips 6 = .ok (.getfield 63, 3) := dk_180 0 63 (dk_at dksX10_slips_0 6 rfl rfl)
theorem dX10_slips_9 : decode cX10_slips 9 = .ok (.if_icmp .ge 21, 3) := dk_162 0 21 (dk_at dksX10_slips_0 9 rfl rfl)
theorem dX10_slips_12 : decode cX10_slips 12 = .ok (.iload_n 1, 1) := dk_27 (dk_at dksX10_slips_0 12 rfl rfl)
theorem dX10_slips_13 : decode cX10_slips 13 = .ok (.aload_n 0, 1) := dk_42 (dk_at dksX10_slips_0 13 rfl rfl)
theorem dX10_slips_14 : decode cX10_slips 14 = .ok (.getfield 7, 3) := dk_180 0 7 (dk_at dksX10_slips_0 14 rfl rfl)
theorem dX10_slips_17 : decode cX10_slips 17 = .ok (.bipush 19, 2) := dk_16 19 (dk_at dksX10_slips_0 17 rfl rfl)
theorem dX10_slips_19 : decode cX10_slips 19 = .ok (.iload_n 2, 1) := dk_28 (dk_at dksX10_slips_0 19 rfl rfl)
theorem dX10_slips_20 : decode cX10_slips 20 = .ok (.iadd, 1) := dk_96 (dk_at dksX10_slips_0 20 rfl rfl)
theorem dX10_slips_21 : decode cX10_slips 21 = .ok (.iaload, 1) := dk_46 (dk_at dksX10_slips_0 21 rfl rfl)
theorem dX10_slips_22 : decode cX10_slips 22 = .ok (.iadd, 1) := dk_96 (dk_at dksX10_slips_0 22 rfl rfl)
theorem dX10_slips_23 : decode cX10_slips 23 = .ok (.istore_n 1, 1) := dk_60 (dk_at dksX10_slips_0 23 rfl rfl)
theorem dX10_slips_24 : decode cX10_slips 24 = .ok (.iinc 2 1, 3) := dk_132 2 1 (dk_at dksX10_slips_1 0 rfl rfl)
theorem dX10_slips_27 : decode cX10_slips 27 = .ok (.goto (-23), 3) := dk_167 255 233 (dk_at dksX10_slips_1 3 rfl rfl)
theorem dX10_slips_30 : decode cX10_slips 30 = .ok (.iload_n 1, 1) := dk_27 (dk_at dksX10_slips_1 6 rfl rfl)
theorem dX10_slips_31 : decode cX10_slips 31 = .ok (.ireturn, 1) := dk_172 (dk_at dksX10_slips_1 7 rfl rfl)
abbrev cX10_take : ByteArray := prog_14_method_37_code
def yX10_take : MethodName := ⟨RX10, "take", "(II)I"⟩
def dkwX10_take_2 : List UInt8 := [167, 0, 4, 29, 172]
abbrev dktX10_take_2 : List UInt8 := dkwX10_take_2 ++ []
def dkwX10_take_1 : List UInt8 := [180, 0, 17, 27, 46, 42, 180, 0, 20, 27, 46, 182, 0, 190, 62, 28, 154, 0, 11, 42, 29, 182, 0, 183]
abbrev dktX10_take_1 : List UInt8 := dkwX10_take_1 ++ dktX10_take_2
def dkwX10_take_0 : List UInt8 := [42, 27, 182, 0, 136, 153, 0, 13, 28, 133, 9, 10, 184, 0, 67, 154, 0, 5, 2, 172, 42, 27, 42]
abbrev dktX10_take_0 : List UInt8 := dkwX10_take_0 ++ dktX10_take_1
theorem dksX10_take_0 : cX10_take.data.toList.drop 0 = dktX10_take_0 := by decide +kernel
theorem dksX10_take_1 : cX10_take.data.toList.drop 23 = dktX10_take_1 := dk_seg dksX10_take_0 23 rfl rfl
theorem dksX10_take_2 : cX10_take.data.toList.drop 47 = dktX10_take_2 := dk_seg dksX10_take_1 24 rfl rfl
theorem dX10_take_0 : decode cX10_take 0 = .ok (.aload_n 0, 1) := dk_42 (dk_at dksX10_take_0 0 rfl rfl)
theorem dX10_take_1 : decode cX10_take 1 = .ok (.iload_n 1, 1) := dk_27 (dk_at dksX10_take_0 1 rfl rfl)
theorem dX10_take_2 : decode cX10_take 2 = .ok (.invokevirtual 136, 3) := dk_182 0 136 (dk_at dksX10_take_0 2 rfl rfl)
theorem dX10_take_5 : decode cX10_take 5 = .ok (.ifCond .eq 13, 3) := dk_153 0 13 (dk_at dksX10_take_0 5 rfl rfl)
theorem dX10_take_8 : decode cX10_take 8 = .ok (.iload_n 2, 1) := dk_28 (dk_at dksX10_take_0 8 rfl rfl)
theorem dX10_take_9 : decode cX10_take 9 = .ok (.i2l, 1) := dk_133 (dk_at dksX10_take_0 9 rfl rfl)
theorem dX10_take_10 : decode cX10_take 10 = .ok (.lconst 0, 1) := dk_9 (dk_at dksX10_take_0 10 rfl rfl)
theorem dX10_take_11 : decode cX10_take 11 = .ok (.lconst 1, 1) := dk_10 (dk_at dksX10_take_0 11 rfl rfl)
theorem dX10_take_12 : decode cX10_take 12 = .ok (.invokestatic 67, 3) := dk_184 0 67 (dk_at dksX10_take_0 12 rfl rfl)
theorem dX10_take_15 : decode cX10_take 15 = .ok (.ifCond .ne 5, 3) := dk_154 0 5 (dk_at dksX10_take_0 15 rfl rfl)
theorem dX10_take_18 : decode cX10_take 18 = .ok (.iconst (-1), 1) := dk_2 (dk_at dksX10_take_0 18 rfl rfl)
theorem dX10_take_19 : decode cX10_take 19 = .ok (.ireturn, 1) := dk_172 (dk_at dksX10_take_0 19 rfl rfl)
theorem dX10_take_20 : decode cX10_take 20 = .ok (.aload_n 0, 1) := dk_42 (dk_at dksX10_take_0 20 rfl rfl)
theorem dX10_take_21 : decode cX10_take 21 = .ok (.iload_n 1, 1) := dk_27 (dk_at dksX10_take_0 21 rfl rfl)
theorem dX10_take_22 : decode cX10_take 22 = .ok (.aload_n 0, 1) := dk_42 (dk_at dksX10_take_0 22 rfl rfl)
theorem dX10_take_23 : decode cX10_take 23 = .ok (.getfield 17, 3) := dk_180 0 17 (dk_at dksX10_take_1 0 rfl rfl)
theorem dX10_take_26 : decode cX10_take 26 = .ok (.iload_n 1, 1) := dk_27 (dk_at dksX10_take_1 3 rfl rfl)
theorem dX10_take_27 : decode cX10_take 27 = .ok (.iaload, 1) := dk_46 (dk_at dksX10_take_1 4 rfl rfl)
theorem dX10_take_28 : decode cX10_take 28 = .ok (.aload_n 0, 1) := dk_42 (dk_at dksX10_take_1 5 rfl rfl)
theorem dX10_take_29 : decode cX10_take 29 = .ok (.getfield 20, 3) := dk_180 0 20 (dk_at dksX10_take_1 6 rfl rfl)
theorem dX10_take_32 : decode cX10_take 32 = .ok (.iload_n 1, 1) := dk_27 (dk_at dksX10_take_1 9 rfl rfl)
theorem dX10_take_33 : decode cX10_take 33 = .ok (.iaload, 1) := dk_46 (dk_at dksX10_take_1 10 rfl rfl)
theorem dX10_take_34 : decode cX10_take 34 = .ok (.invokevirtual 190, 3) := dk_182 0 190 (dk_at dksX10_take_1 11 rfl rfl)
theorem dX10_take_37 : decode cX10_take 37 = .ok (.istore_n 3, 1) := dk_62 (dk_at dksX10_take_1 14 rfl rfl)
theorem dX10_take_38 : decode cX10_take 38 = .ok (.iload_n 2, 1) := dk_28 (dk_at dksX10_take_1 15 rfl rfl)
theorem dX10_take_39 : decode cX10_take 39 = .ok (.ifCond .ne 11, 3) := dk_154 0 11 (dk_at dksX10_take_1 16 rfl rfl)
theorem dX10_take_42 : decode cX10_take 42 = .ok (.aload_n 0, 1) := dk_42 (dk_at dksX10_take_1 19 rfl rfl)
theorem dX10_take_43 : decode cX10_take 43 = .ok (.iload_n 3, 1) := dk_29 (dk_at dksX10_take_1 20 rfl rfl)
theorem dX10_take_44 : decode cX10_take 44 = .ok (.invokevirtual 183, 3) := dk_182 0 183 (dk_at dksX10_take_1 21 rfl rfl)
theorem dX10_take_47 : decode cX10_take 47 = .ok (.goto 4, 3) := dk_167 0 4 (dk_at dksX10_take_2 0 rfl rfl)
theorem dX10_take_50 : decode cX10_take 50 = .ok (.iload_n 3, 1) := dk_29 (dk_at dksX10_take_2 3 rfl rfl)
theorem dX10_take_51 : decode cX10_take 51 = .ok (.ireturn, 1) := dk_172 (dk_at dksX10_take_2 4 rfl rfl)
abbrev cX10_bestOf : ByteArray := prog_14_method_36_code
def yX10_bestOf : MethodName := ⟨RX10, "bestOf", "(III)I"⟩
def dkwX10_bestOf_5 : List UInt8 := [21, 6, 54, 5, 132, 6, 1, 167, 255, 206, 21, 5, 172]
abbrev dktX10_bestOf_5 : List UInt8 := dkwX10_bestOf_5 ++ []
def dkwX10_bestOf_4 : List UInt8 := [182, 0, 183, 42, 21, 5, 182, 0, 183, 164, 0, 18, 42, 21, 6, 28, 29, 182, 0, 186, 153, 0, 7]
abbrev dktX10_bestOf_4 : List UInt8 := dkwX10_bestOf_4 ++ dktX10_bestOf_5
def dkwX10_bestOf_3 : List UInt8 := [54, 6, 21, 6, 21, 4, 163, 0, 49, 21, 6, 21, 4, 2, 130, 126, 154, 0, 33, 42, 21, 6]
abbrev dktX10_bestOf_3 : List UInt8 := dkwX10_bestOf_3 ++ dktX10_bestOf_4
def dkwX10_bestOf_2 : List UInt8 := [161, 0, 10, 4, 21, 5, 120, 167, 0, 4, 3, 128, 54, 4, 132, 5, 1, 167, 255, 198, 3, 54, 5, 4]
abbrev dktX10_bestOf_2 : List UInt8 := dkwX10_bestOf_2 ++ dktX10_bestOf_3
def dkwX10_bestOf_1 : List UInt8 := [104, 46, 27, 160, 0, 30, 42, 180, 0, 26, 8, 21, 5, 104, 4, 96, 46, 42, 180, 0, 7, 3, 46]
abbrev dktX10_bestOf_1 : List UInt8 := dkwX10_bestOf_1 ++ dktX10_bestOf_2
def dkwX10_bestOf_0 : List UInt8 := [3, 54, 4, 3, 54, 5, 21, 5, 42, 180, 0, 71, 162, 0, 55, 21, 4, 42, 180, 0, 26, 8, 21, 5]
abbrev dktX10_bestOf_0 : List UInt8 := dkwX10_bestOf_0 ++ dktX10_bestOf_1
theorem dksX10_bestOf_0 : cX10_bestOf.data.toList.drop 0 = dktX10_bestOf_0 := by decide +kernel
theorem dksX10_bestOf_1 : cX10_bestOf.data.toList.drop 24 = dktX10_bestOf_1 := dk_seg dksX10_bestOf_0 24 rfl rfl
theorem dksX10_bestOf_2 : cX10_bestOf.data.toList.drop 47 = dktX10_bestOf_2 := dk_seg dksX10_bestOf_1 23 rfl rfl
theorem dksX10_bestOf_3 : cX10_bestOf.data.toList.drop 71 = dktX10_bestOf_3 := dk_seg dksX10_bestOf_2 24 rfl rfl
theorem dksX10_bestOf_4 : cX10_bestOf.data.toList.drop 93 = dktX10_bestOf_4 := dk_seg dksX10_bestOf_3 22 rfl rfl
theorem dksX10_bestOf_5 : cX10_bestOf.data.toList.drop 116 = dktX10_bestOf_5 := dk_seg dksX10_bestOf_4 23 rfl rfl
theorem dX10_bestOf_0 : decode cX10_bestOf 0 = .ok (.iconst 0, 1) := dk_3 (dk_at dksX10_bestOf_0 0 rfl rfl)
theorem dX10_bestOf_1 : decode cX10_bestOf 1 = .ok (.istore 4, 2) := dk_54 4 (dk_at dksX10_bestOf_0 1 rfl rfl)
theorem dX10_bestOf_3 : decode cX10_bestOf 3 = .ok (.iconst 0, 1) := dk_3 (dk_at dksX10_bestOf_0 3 rfl rfl)
theorem dX10_bestOf_4 : decode cX10_bestOf 4 = .ok (.istore 5, 2) := dk_54 5 (dk_at dksX10_bestOf_0 4 rfl rfl)
theorem dX10_bestOf_6 : decode cX10_bestOf 6 = .ok (.iload 5, 2) := dk_21 5 (dk_at dksX10_bestOf_0 6 rfl rfl)
theorem dX10_bestOf_8 : decode cX10_bestOf 8 = .ok (.aload_n 0, 1) := dk_42 (dk_at dksX10_bestOf_0 8 rfl rfl)
theorem dX10_bestOf_9 : decode cX10_bestOf 9 = .ok (.getfield 71, 3) := dk_180 0 71 (dk_at dksX10_bestOf_0 9 rfl rfl)
theorem dX10_bestOf_12 : decode cX10_bestOf 12 = .ok (.if_icmp .ge 55, 3) := dk_162 0 55 (dk_at dksX10_bestOf_0 12 rfl rfl)
theorem dX10_bestOf_15 : decode cX10_bestOf 15 = .ok (.iload 4, 2) := dk_21 4 (dk_at dksX10_bestOf_0 15 rfl rfl)
theorem dX10_bestOf_17 : decode cX10_bestOf 17 = .ok (.aload_n 0, 1) := dk_42 (dk_at dksX10_bestOf_0 17 rfl rfl)
theorem dX10_bestOf_18 : decode cX10_bestOf 18 = .ok (.getfield 26, 3) := dk_180 0 26 (dk_at dksX10_bestOf_0 18 rfl rfl)
theorem dX10_bestOf_21 : decode cX10_bestOf 21 = .ok (.iconst 5, 1) := dk_8 (dk_at dksX10_bestOf_0 21 rfl rfl)
theorem dX10_bestOf_22 : decode cX10_bestOf 22 = .ok (.iload 5, 2) := dk_21 5 (dk_at dksX10_bestOf_0 22 rfl rfl)
theorem dX10_bestOf_24 : decode cX10_bestOf 24 = .ok (.imul, 1) := dk_104 (dk_at dksX10_bestOf_1 0 rfl rfl)
theorem dX10_bestOf_25 : decode cX10_bestOf 25 = .ok (.iaload, 1) := dk_46 (dk_at dksX10_bestOf_1 1 rfl rfl)
theorem dX10_bestOf_26 : decode cX10_bestOf 26 = .ok (.iload_n 1, 1) := dk_27 (dk_at dksX10_bestOf_1 2 rfl rfl)
theorem dX10_bestOf_27 : decode cX10_bestOf 27 = .ok (.if_icmp .ne 30, 3) := dk_160 0 30 (dk_at dksX10_bestOf_1 3 rfl rfl)
theorem dX10_bestOf_30 : decode cX10_bestOf 30 = .ok (.aload_n 0, 1) := dk_42 (dk_at dksX10_bestOf_1 6 rfl rfl)
theorem dX10_bestOf_31 : decode cX10_bestOf 31 = .ok (.getfield 26, 3) := dk_180 0 26 (dk_at dksX10_bestOf_1 7 rfl rfl)
theorem dX10_bestOf_34 : decode cX10_bestOf 34 = .ok (.iconst 5, 1) := dk_8 (dk_at dksX10_bestOf_1 10 rfl rfl)
theorem dX10_bestOf_35 : decode cX10_bestOf 35 = .ok (.iload 5, 2) := dk_21 5 (dk_at dksX10_bestOf_1 11 rfl rfl)
theorem dX10_bestOf_37 : decode cX10_bestOf 37 = .ok (.imul, 1) := dk_104 (dk_at dksX10_bestOf_1 13 rfl rfl)
theorem dX10_bestOf_38 : decode cX10_bestOf 38 = .ok (.iconst 1, 1) := dk_4 (dk_at dksX10_bestOf_1 14 rfl rfl)
theorem dX10_bestOf_39 : decode cX10_bestOf 39 = .ok (.iadd, 1) := dk_96 (dk_at dksX10_bestOf_1 15 rfl rfl)
theorem dX10_bestOf_40 : decode cX10_bestOf 40 = .ok (.iaload, 1) := dk_46 (dk_at dksX10_bestOf_1 16 rfl rfl)
theorem dX10_bestOf_41 : decode cX10_bestOf 41 = .ok (.aload_n 0, 1) := dk_42 (dk_at dksX10_bestOf_1 17 rfl rfl)
theorem dX10_bestOf_42 : decode cX10_bestOf 42 = .ok (.getfield 7, 3) := dk_180 0 7 (dk_at dksX10_bestOf_1 18 rfl rfl)
theorem dX10_bestOf_45 : decode cX10_bestOf 45 = .ok (.iconst 0, 1) := dk_3 (dk_at dksX10_bestOf_1 21 rfl rfl)
theorem dX10_bestOf_46 : decode cX10_bestOf 46 = .ok (.iaload, 1) := dk_46 (dk_at dksX10_bestOf_1 22 rfl rfl)
theorem dX10_bestOf_47 : decode cX10_bestOf 47 = .ok (.if_icmp .lt 10, 3) := dk_161 0 10 (dk_at dksX10_bestOf_2 0 rfl rfl)
theorem dX10_bestOf_50 : decode cX10_bestOf 50 = .ok (.iconst 1, 1) := dk_4 (dk_at dksX10_bestOf_2 3 rfl rfl)
theorem dX10_bestOf_51 : decode cX10_bestOf 51 = .ok (.iload 5, 2) := dk_21 5 (dk_at dksX10_bestOf_2 4 rfl rfl)
theorem dX10_bestOf_53 : decode cX10_bestOf 53 = .ok (.ishl, 1) := dk_120 (dk_at dksX10_bestOf_2 6 rfl rfl)
theorem dX10_bestOf_54 : decode cX10_bestOf 54 = .ok (.goto 4, 3) := dk_167 0 4 (dk_at dksX10_bestOf_2 7 rfl rfl)
theorem dX10_bestOf_57 : decode cX10_bestOf 57 = .ok (.iconst 0, 1) := dk_3 (dk_at dksX10_bestOf_2 10 rfl rfl)
theorem dX10_bestOf_58 : decode cX10_bestOf 58 = .ok (.ior, 1) := dk_128 (dk_at dksX10_bestOf_2 11 rfl rfl)
theorem dX10_bestOf_59 : decode cX10_bestOf 59 = .ok (.istore 4, 2) := dk_54 4 (dk_at dksX10_bestOf_2 12 rfl rfl)
theorem dX10_bestOf_61 : decode cX10_bestOf 61 = .ok (.iinc 5 1, 3) := dk_132 5 1 (dk_at dksX10_bestOf_2 14 rfl rfl)
theorem dX10_bestOf_64 : decode cX10_bestOf 64 = .ok (.goto (-58), 3) := dk_167 255 198 (dk_at dksX10_bestOf_2 17 rfl rfl)
theorem dX10_bestOf_67 : decode cX10_bestOf 67 = .ok (.iconst 0, 1) := dk_3 (dk_at dksX10_bestOf_2 20 rfl rfl)
theorem dX10_bestOf_68 : decode cX10_bestOf 68 = .ok (.istore 5, 2) := dk_54 5 (dk_at dksX10_bestOf_2 21 rfl rfl)
theorem dX10_bestOf_70 : decode cX10_bestOf 70 = .ok (.iconst 1, 1) := dk_4 (dk_at dksX10_bestOf_2 23 rfl rfl)
theorem dX10_bestOf_71 : decode cX10_bestOf 71 = .ok (.istore 6, 2) := dk_54 6 (dk_at dksX10_bestOf_3 0 rfl rfl)
theorem dX10_bestOf_73 : decode cX10_bestOf 73 = .ok (.iload 6, 2) := dk_21 6 (dk_at dksX10_bestOf_3 2 rfl rfl)
theorem dX10_bestOf_75 : decode cX10_bestOf 75 = .ok (.iload 4, 2) := dk_21 4 (dk_at dksX10_bestOf_3 4 rfl rfl)
theorem dX10_bestOf_77 : decode cX10_bestOf 77 = .ok (.if_icmp .gt 49, 3) := dk_163 0 49 (dk_at dksX10_bestOf_3 6 rfl rfl)
theorem dX10_bestOf_80 : decode cX10_bestOf 80 = .ok (.iload 6, 2) := dk_21 6 (dk_at dksX10_bestOf_3 9 rfl rfl)
theorem dX10_bestOf_82 : decode cX10_bestOf 82 = .ok (.iload 4, 2) := dk_21 4 (dk_at dksX10_bestOf_3 11 rfl rfl)
theorem dX10_bestOf_84 : decode cX10_bestOf 84 = .ok (.iconst (-1), 1) := dk_2 (dk_at dksX10_bestOf_3 13 rfl rfl)
theorem dX10_bestOf_85 : decode cX10_bestOf 85 = .ok (.ixor, 1) := dk_130 (dk_at dksX10_bestOf_3 14 rfl rfl)
theorem dX10_bestOf_86 : decode cX10_bestOf 86 = .ok (.iand, 1) := dk_126 (dk_at dksX10_bestOf_3 15 rfl rfl)
theorem dX10_bestOf_87 : decode cX10_bestOf 87 = .ok (.ifCond .ne 33, 3) := dk_154 0 33 (dk_at dksX10_bestOf_3 16 rfl rfl)
theorem dX10_bestOf_90 : decode cX10_bestOf 90 = .ok (.aload_n 0, 1) := dk_42 (dk_at dksX10_bestOf_3 19 rfl rfl)
theorem dX10_bestOf_91 : decode cX10_bestOf 91 = .ok (.iload 6, 2) := dk_21 6 (dk_at dksX10_bestOf_3 20 rfl rfl)
theorem dX10_bestOf_93 : decode cX10_bestOf 93 = .ok (.invokevirtual 183, 3) := dk_182 0 183 (dk_at dksX10_bestOf_4 0 rfl rfl)
theorem dX10_bestOf_96 : decode cX10_bestOf 96 = .ok (.aload_n 0, 1) := dk_42 (dk_at dksX10_bestOf_4 3 rfl rfl)
theorem dX10_bestOf_97 : decode cX10_bestOf 97 = .ok (.iload 5, 2) := dk_21 5 (dk_at dksX10_bestOf_4 4 rfl rfl)
theorem dX10_bestOf_99 : decode cX10_bestOf 99 = .ok (.invokevirtual 183, 3) := dk_182 0 183 (dk_at dksX10_bestOf_4 6 rfl rfl)
theorem dX10_bestOf_102 : decode cX10_bestOf 102 = .ok (.if_icmp .le 18, 3) := dk_164 0 18 (dk_at dksX10_bestOf_4 9 rfl rfl)
theorem dX10_bestOf_105 : decode cX10_bestOf 105 = .ok (.aload_n 0, 1) := dk_42 (dk_at dksX10_bestOf_4 12 rfl rfl)
theorem dX10_bestOf_106 : decode cX10_bestOf 106 = .ok (.iload 6, 2) := dk_21 6 (dk_at dksX10_bestOf_4 13 rfl rfl)
theorem dX10_bestOf_108 : decode cX10_bestOf 108 = .ok (.iload_n 2, 1) := dk_28 (dk_at dksX10_bestOf_4 15 rfl rfl)
theorem dX10_bestOf_109 : decode cX10_bestOf 109 = .ok (.iload_n 3, 1) := dk_29 (dk_at dksX10_bestOf_4 16 rfl rfl)
theorem dX10_bestOf_110 : decode cX10_bestOf 110 = .ok (.invokevirtual 186, 3) := dk_182 0 186 (dk_at dksX10_bestOf_4 17 rfl rfl)
theorem dX10_bestOf_113 : decode cX10_bestOf 113 = .ok (.ifCond .eq 7, 3) := dk_153 0 7 (dk_at dksX10_bestOf_4 20 rfl rfl)
theorem dX10_bestOf_116 : decode cX10_bestOf 116 = .ok (.iload 6, 2) := dk_21 6 (dk_at dksX10_bestOf_5 0 rfl rfl)
theorem dX10_bestOf_118 : decode cX10_bestOf 118 = .ok (.istore 5, 2) := dk_54 5 (dk_at dksX10_bestOf_5 2 rfl rfl)
theorem dX10_bestOf_120 : decode cX10_bestOf 120 = .ok (.iinc 6 1, 3) := dk_132 6 1 (dk_at dksX10_bestOf_5 4 rfl rfl)
theorem dX10_bestOf_123 : decode cX10_bestOf 123 = .ok (.goto (-50), 3) := dk_167 255 206 (dk_at dksX10_bestOf_5 7 rfl rfl)
theorem dX10_bestOf_126 : decode cX10_bestOf 126 = .ok (.iload 5, 2) := dk_21 5 (dk_at dksX10_bestOf_5 10 rfl rfl)
theorem dX10_bestOf_128 : decode cX10_bestOf 128 = .ok (.ireturn, 1) := dk_172 (dk_at dksX10_bestOf_5 12 rfl rfl)
abbrev cX10_worthOf : ByteArray := prog_14_method_35_code
def yX10_worthOf : MethodName := ⟨RX10, "worthOf", "(I)I"⟩
def dkwX10_worthOf_1 : List UInt8 := [180, 0, 26, 8, 29, 104, 6, 96, 46, 167, 0, 4, 3, 96, 61, 132, 3, 1, 167, 255, 220, 28, 172]
abbrev dktX10_worthOf_1 : List UInt8 := dkwX10_worthOf_1 ++ []
def dkwX10_worthOf_0 : List UInt8 := [3, 61, 3, 62, 29, 42, 180, 0, 71, 162, 0, 34, 28, 27, 29, 184, 0, 176, 153, 0, 16, 42]
abbrev dktX10_worthOf_0 : List UInt8 := dkwX10_worthOf_0 ++ dktX10_worthOf_1
theorem dksX10_worthOf_0 : cX10_worthOf.data.toList.drop 0 = dktX10_worthOf_0 := by decide +kernel
theorem dksX10_worthOf_1 : cX10_worthOf.data.toList.drop 22 = dktX10_worthOf_1 := dk_seg dksX10_worthOf_0 22 rfl rfl
theorem dX10_worthOf_0 : decode cX10_worthOf 0 = .ok (.iconst 0, 1) := dk_3 (dk_at dksX10_worthOf_0 0 rfl rfl)
theorem dX10_worthOf_1 : decode cX10_worthOf 1 = .ok (.istore_n 2, 1) := dk_61 (dk_at dksX10_worthOf_0 1 rfl rfl)
theorem dX10_worthOf_2 : decode cX10_worthOf 2 = .ok (.iconst 0, 1) := dk_3 (dk_at dksX10_worthOf_0 2 rfl rfl)
theorem dX10_worthOf_3 : decode cX10_worthOf 3 = .ok (.istore_n 3, 1) := dk_62 (dk_at dksX10_worthOf_0 3 rfl rfl)
theorem dX10_worthOf_4 : decode cX10_worthOf 4 = .ok (.iload_n 3, 1) := dk_29 (dk_at dksX10_worthOf_0 4 rfl rfl)
theorem dX10_worthOf_5 : decode cX10_worthOf 5 = .ok (.aload_n 0, 1) := dk_42 (dk_at dksX10_worthOf_0 5 rfl rfl)
theorem dX10_worthOf_6 : decode cX10_worthOf 6 = .ok (.getfield 71, 3) := dk_180 0 71 (dk_at dksX10_worthOf_0 6 rfl rfl)
theorem dX10_worthOf_9 : decode cX10_worthOf 9 = .ok (.if_icmp .ge 34, 3) := dk_162 0 34 (dk_at dksX10_worthOf_0 9 rfl rfl)
theorem dX10_worthOf_12 : decode cX10_worthOf 12 = .ok (.iload_n 2, 1) := dk_28 (dk_at dksX10_worthOf_0 12 rfl rfl)
theorem dX10_worthOf_13 : decode cX10_worthOf 13 = .ok (.iload_n 1, 1) := dk_27 (dk_at dksX10_worthOf_0 13 rfl rfl)
theorem dX10_worthOf_14 : decode cX10_worthOf 14 = .ok (.iload_n 3, 1) := dk_29 (dk_at dksX10_worthOf_0 14 rfl rfl)
theorem dX10_worthOf_15 : decode cX10_worthOf 15 = .ok (.invokestatic 176, 3) := dk_184 0 176 (dk_at dksX10_worthOf_0 15 rfl rfl)
theorem dX10_worthOf_18 : decode cX10_worthOf 18 = .ok (.ifCond .eq 16, 3) := dk_153 0 16 (dk_at dksX10_worthOf_0 18 rfl rfl)
theorem dX10_worthOf_21 : decode cX10_worthOf 21 = .ok (.aload_n 0, 1) := dk_42 (dk_at dksX10_worthOf_0 21 rfl rfl)
theorem dX10_worthOf_22 : decode cX10_worthOf 22 = .ok (.getfield 26, 3) := dk_180 0 26 (dk_at dksX10_worthOf_1 0 rfl rfl)
theorem dX10_worthOf_25 : decode cX10_worthOf 25 = .ok (.iconst 5, 1) := dk_8 (dk_at dksX10_worthOf_1 3 rfl rfl)
theorem dX10_worthOf_26 : decode cX10_worthOf 26 = .ok (.iload_n 3, 1) := dk_29 (dk_at dksX10_worthOf_1 4 rfl rfl)
theorem dX10_worthOf_27 : decode cX10_worthOf 27 = .ok (.imul, 1) := dk_104 (dk_at dksX10_worthOf_1 5 rfl rfl)
theorem dX10_worthOf_28 : decode cX10_worthOf 28 = .ok (.iconst 3, 1) := dk_6 (dk_at dksX10_worthOf_1 6 rfl rfl)
theorem dX10_worthOf_29 : decode cX10_worthOf 29 = .ok (.iadd, 1) := dk_96 (dk_at dksX10_worthOf_1 7 rfl rfl)
theorem dX10_worthOf_30 : decode cX10_worthOf 30 = .ok (.iaload, 1) := dk_46 (dk_at dksX10_worthOf_1 8 rfl rfl)
theorem dX10_worthOf_31 : decode cX10_worthOf 31 = .ok (.goto 4, 3) := dk_167 0 4 (dk_at dksX10_worthOf_1 9 rfl rfl)
theorem dX10_worthOf_34 : decode cX10_worthOf 34 = .ok (.iconst 0, 1) := dk_3 (dk_at dksX10_worthOf_1 12 rfl rfl)
theorem dX10_worthOf_35 : decode cX10_worthOf 35 = .ok (.iadd, 1) := dk_96 (dk_at dksX10_worthOf_1 13 rfl rfl)
theorem dX10_worthOf_36 : decode cX10_worthOf 36 = .ok (.istore_n 2, 1) := dk_61 (dk_at dksX10_worthOf_1 14 rfl rfl)
theorem dX10_worthOf_37 : decode cX10_worthOf 37 = .ok (.iinc 3 1, 3) := dk_132 3 1 (dk_at dksX10_worthOf_1 15 rfl rfl)
theorem dX10_worthOf_40 : decode cX10_worthOf 40 = .ok (.goto (-36), 3) := dk_167 255 220 (dk_at dksX10_worthOf_1 18 rfl rfl)
theorem dX10_worthOf_43 : decode cX10_worthOf 43 = .ok (.iload_n 2, 1) := dk_28 (dk_at dksX10_worthOf_1 21 rfl rfl)
theorem dX10_worthOf_44 : decode cX10_worthOf 44 = .ok (.ireturn, 1) := dk_172 (dk_at dksX10_worthOf_1 22 rfl rfl)
abbrev cX10_has : ByteArray := prog_14_method_4_code
def yX10_has : MethodName := ⟨RX10, "has", "(II)Z"⟩
def dkwX10_has_0 : List UInt8 := [26, 27, 122, 4, 126, 4, 160, 0, 7, 4, 167, 0, 4, 3, 172]
abbrev dktX10_has_0 : List UInt8 := dkwX10_has_0 ++ []
theorem dksX10_has_0 : cX10_has.data.toList.drop 0 = dktX10_has_0 := by decide +kernel
theorem dX10_has_0 : decode cX10_has 0 = .ok (.iload_n 0, 1) := dk_26 (dk_at dksX10_has_0 0 rfl rfl)
theorem dX10_has_1 : decode cX10_has 1 = .ok (.iload_n 1, 1) := dk_27 (dk_at dksX10_has_0 1 rfl rfl)
theorem dX10_has_2 : decode cX10_has 2 = .ok (.ishr, 1) := dk_122 (dk_at dksX10_has_0 2 rfl rfl)
theorem dX10_has_3 : decode cX10_has 3 = .ok (.iconst 1, 1) := dk_4 (dk_at dksX10_has_0 3 rfl rfl)
theorem dX10_has_4 : decode cX10_has 4 = .ok (.iand, 1) := dk_126 (dk_at dksX10_has_0 4 rfl rfl)
theorem dX10_has_5 : decode cX10_has 5 = .ok (.iconst 1, 1) := dk_4 (dk_at dksX10_has_0 5 rfl rfl)
theorem dX10_has_6 : decode cX10_has 6 = .ok (.if_icmp .ne 7, 3) := dk_160 0 7 (dk_at dksX10_has_0 6 rfl rfl)
theorem dX10_has_9 : decode cX10_has 9 = .ok (.iconst 1, 1) := dk_4 (dk_at dksX10_has_0 9 rfl rfl)
theorem dX10_has_10 : decode cX10_has 10 = .ok (.goto 4, 3) := dk_167 0 4 (dk_at dksX10_has_0 10 rfl rfl)
theorem dX10_has_13 : decode cX10_has 13 = .ok (.iconst 0, 1) := dk_3 (dk_at dksX10_has_0 13 rfl rfl)
theorem dX10_has_14 : decode cX10_has 14 = .ok (.ireturn, 1) := dk_172 (dk_at dksX10_has_0 14 rfl rfl)
abbrev cX10_canKeep : ByteArray := prog_14_method_34_code
def yX10_canKeep : MethodName := ⟨RX10, "canKeep", "(III)Z"⟩
def dkwX10_canKeep_11 : List UInt8 := [3, 172, 132, 7, 1, 167, 255, 216, 132, 5, 1, 167, 254, 253, 4, 172]
abbrev dktX10_canKeep_11 : List UInt8 := dkwX10_canKeep_11 ++ []
def dkwX10_canKeep_10 : List UInt8 := [21, 7, 184, 0, 176, 153, 0, 21, 42, 180, 0, 26, 8, 21, 7, 104, 7, 96, 46, 21, 5, 160, 0, 5]
abbrev dktX10_canKeep_10 : List UInt8 := dkwX10_canKeep_10 ++ dktX10_canKeep_11
def dkwX10_canKeep_9 : List UInt8 := [167, 255, 160, 132, 7, 1, 167, 255, 144, 3, 54, 7, 21, 7, 42, 180, 0, 71, 162, 0, 37, 21, 4]
abbrev dktX10_canKeep_9 : List UInt8 := dkwX10_canKeep_9 ++ dktX10_canKeep_10
def dkwX10_canKeep_8 : List UInt8 := [21, 8, 46, 154, 0, 12, 4, 21, 8, 120, 2, 130, 167, 0, 4, 2, 126, 54, 4, 132, 8, 1]
abbrev dktX10_canKeep_8 : List UInt8 := dkwX10_canKeep_8 ++ dktX10_canKeep_9
def dkwX10_canKeep_7 : List UInt8 := [180, 0, 53, 21, 8, 92, 46, 21, 9, 100, 79, 21, 6, 21, 9, 100, 54, 6, 21, 4, 42, 180, 0, 53]
abbrev dktX10_canKeep_7 : List UInt8 := dkwX10_canKeep_7 ++ dktX10_canKeep_8
def dkwX10_canKeep_6 : List UInt8 := [104, 7, 96, 46, 21, 7, 160, 0, 61, 21, 6, 42, 180, 0, 53, 21, 8, 46, 184, 0, 95, 54, 9, 42]
abbrev dktX10_canKeep_6 : List UInt8 := dkwX10_canKeep_6 ++ dktX10_canKeep_7
def dkwX10_canKeep_5 : List UInt8 := [42, 180, 0, 71, 162, 0, 93, 21, 4, 21, 8, 184, 0, 176, 153, 0, 77, 42, 180, 0, 26, 8, 21, 8]
abbrev dktX10_canKeep_5 : List UInt8 := dkwX10_canKeep_5 ++ dktX10_canKeep_6
def dkwX10_canKeep_4 : List UInt8 := [164, 0, 5, 3, 172, 29, 54, 6, 21, 5, 54, 7, 21, 7, 16, 10, 162, 0, 111, 3, 54, 8, 21, 8]
abbrev dktX10_canKeep_4 : List UInt8 := dkwX10_canKeep_4 ++ dktX10_canKeep_5
def dkwX10_canKeep_3 : List UInt8 := [79, 21, 4, 4, 21, 6, 120, 128, 54, 4, 132, 6, 1, 167, 255, 192, 21, 4, 184, 0, 180, 28]
abbrev dktX10_canKeep_3 : List UInt8 := dkwX10_canKeep_3 ++ dktX10_canKeep_4
def dkwX10_canKeep_2 : List UInt8 := [96, 46, 21, 5, 160, 0, 30, 42, 180, 0, 53, 21, 6, 42, 180, 0, 26, 8, 21, 6, 104, 5, 96, 46]
abbrev dktX10_canKeep_2 : List UInt8 := dkwX10_canKeep_2 ++ dktX10_canKeep_3
def dkwX10_canKeep_1 : List UInt8 := [180, 0, 71, 162, 0, 61, 27, 21, 6, 184, 0, 176, 153, 0, 46, 42, 180, 0, 26, 8, 21, 6, 104, 4]
abbrev dktX10_canKeep_1 : List UInt8 := dkwX10_canKeep_1 ++ dktX10_canKeep_2
def dkwX10_canKeep_0 : List UInt8 := [3, 54, 4, 42, 180, 0, 7, 3, 46, 54, 5, 21, 5, 16, 10, 162, 1, 2, 3, 54, 6, 21, 6, 42]
abbrev dktX10_canKeep_0 : List UInt8 := dkwX10_canKeep_0 ++ dktX10_canKeep_1
theorem dksX10_canKeep_0 : cX10_canKeep.data.toList.drop 0 = dktX10_canKeep_0 := by decide +kernel
theorem dksX10_canKeep_1 : cX10_canKeep.data.toList.drop 24 = dktX10_canKeep_1 := dk_seg dksX10_canKeep_0 24 rfl rfl
theorem dksX10_canKeep_2 : cX10_canKeep.data.toList.drop 48 = dktX10_canKeep_2 := dk_seg dksX10_canKeep_1 24 rfl rfl
theorem dksX10_canKeep_3 : cX10_canKeep.data.toList.drop 72 = dktX10_canKeep_3 := dk_seg dksX10_canKeep_2 24 rfl rfl
theorem dksX10_canKeep_4 : cX10_canKeep.data.toList.drop 94 = dktX10_canKeep_4 := dk_seg dksX10_canKeep_3 22 rfl rfl
theorem dksX10_canKeep_5 : cX10_canKeep.data.toList.drop 118 = dktX10_canKeep_5 := dk_seg dksX10_canKeep_4 24 rfl rfl
theorem dksX10_canKeep_6 : cX10_canKeep.data.toList.drop 142 = dktX10_canKeep_6 := dk_seg dksX10_canKeep_5 24 rfl rfl
theorem dksX10_canKeep_7 : cX10_canKeep.data.toList.drop 166 = dktX10_canKeep_7 := dk_seg dksX10_canKeep_6 24 rfl rfl
theorem dksX10_canKeep_8 : cX10_canKeep.data.toList.drop 190 = dktX10_canKeep_8 := dk_seg dksX10_canKeep_7 24 rfl rfl
theorem dksX10_canKeep_9 : cX10_canKeep.data.toList.drop 212 = dktX10_canKeep_9 := dk_seg dksX10_canKeep_8 22 rfl rfl
theorem dksX10_canKeep_10 : cX10_canKeep.data.toList.drop 235 = dktX10_canKeep_10 := dk_seg dksX10_canKeep_9 23 rfl rfl
theorem dksX10_canKeep_11 : cX10_canKeep.data.toList.drop 259 = dktX10_canKeep_11 := dk_seg dksX10_canKeep_10 24 rfl rfl
theorem dX10_canKeep_0 : decode cX10_canKeep 0 = .ok (.iconst 0, 1) := dk_3 (dk_at dksX10_canKeep_0 0 rfl rfl)
theorem dX10_canKeep_1 : decode cX10_canKeep 1 = .ok (.istore 4, 2) := dk_54 4 (dk_at dksX10_canKeep_0 1 rfl rfl)
theorem dX10_canKeep_3 : decode cX10_canKeep 3 = .ok (.aload_n 0, 1) := dk_42 (dk_at dksX10_canKeep_0 3 rfl rfl)
theorem dX10_canKeep_4 : decode cX10_canKeep 4 = .ok (.getfield 7, 3) := dk_180 0 7 (dk_at dksX10_canKeep_0 4 rfl rfl)
theorem dX10_canKeep_7 : decode cX10_canKeep 7 = .ok (.iconst 0, 1) := dk_3 (dk_at dksX10_canKeep_0 7 rfl rfl)
theorem dX10_canKeep_8 : decode cX10_canKeep 8 = .ok (.iaload, 1) := dk_46 (dk_at dksX10_canKeep_0 8 rfl rfl)
theorem dX10_canKeep_9 : decode cX10_canKeep 9 = .ok (.istore 5, 2) := dk_54 5 (dk_at dksX10_canKeep_0 9 rfl rfl)
theorem dX10_canKeep_11 : decode cX10_canKeep 11 = .ok (.iload 5, 2) := dk_21 5 (dk_at dksX10_canKeep_0 11 rfl rfl)
theorem dX10_canKeep_13 : decode cX10_canKeep 13 = .ok (.bipush 10, 2) := dk_16 10 (dk_at dksX10_canKeep_0 13 rfl rfl)
theorem dX10_canKeep_15 : decode cX10_canKeep 15 = .ok (.if_icmp .ge 258, 3) := dk_162 1 2 (dk_at dksX10_canKeep_0 15 rfl rfl)
theorem dX10_canKeep_18 : decode cX10_canKeep 18 = .ok (.iconst 0, 1) := dk_3 (dk_at dksX10_canKeep_0 18 rfl rfl)
theorem dX10_canKeep_19 : decode cX10_canKeep 19 = .ok (.istore 6, 2) := dk_54 6 (dk_at dksX10_canKeep_0 19 rfl rfl)
theorem dX10_canKeep_21 : decode cX10_canKeep 21 = .ok (.iload 6, 2) := dk_21 6 (dk_at dksX10_canKeep_0 21 rfl rfl)
theorem dX10_canKeep_23 : decode cX10_canKeep 23 = .ok (.aload_n 0, 1) := dk_42 (dk_at dksX10_canKeep_0 23 rfl rfl)
theorem dX10_canKeep_24 : decode cX10_canKeep 24 = .ok (.getfield 71, 3) := dk_180 0 71 (dk_at dksX10_canKeep_1 0 rfl rfl)
theorem dX10_canKeep_27 : decode cX10_canKeep 27 = .ok (.if_icmp .ge 61, 3) := dk_162 0 61 (dk_at dksX10_canKeep_1 3 rfl rfl)
theorem dX10_canKeep_30 : decode cX10_canKeep 30 = .ok (.iload_n 1, 1) := dk_27 (dk_at dksX10_canKeep_1 6 rfl rfl)
theorem dX10_canKeep_31 : decode cX10_canKeep 31 = .ok (.iload 6, 2) := dk_21 6 (dk_at dksX10_canKeep_1 7 rfl rfl)
theorem dX10_canKeep_33 : decode cX10_canKeep 33 = .ok (.invokestatic 176, 3) := dk_184 0 176 (dk_at dksX10_canKeep_1 9 rfl rfl)
theorem dX10_canKeep_36 : decode cX10_canKeep 36 = .ok (.ifCond .eq 46, 3) := dk_153 0 46 (dk_at dksX10_canKeep_1 12 rfl rfl)
theorem dX10_canKeep_39 : decode cX10_canKeep 39 = .ok (.aload_n 0, 1) := dk_42 (dk_at dksX10_canKeep_1 15 rfl rfl)
theorem dX10_canKeep_40 : decode cX10_canKeep 40 = .ok (.getfield 26, 3) := dk_180 0 26 (dk_at dksX10_canKeep_1 16 rfl rfl)
theorem dX10_canKeep_43 : decode cX10_canKeep 43 = .ok (.iconst 5, 1) := dk_8 (dk_at dksX10_canKeep_1 19 rfl rfl)
theorem dX10_canKeep_44 : decode cX10_canKeep 44 = .ok (.iload 6, 2) := dk_21 6 (dk_at dksX10_canKeep_1 20 rfl rfl)
theorem dX10_canKeep_46 : decode cX10_canKeep 46 = .ok (.imul, 1) := dk_104 (dk_at dksX10_canKeep_1 22 rfl rfl)
theorem dX10_canKeep_47 : decode cX10_canKeep 47 = .ok (.iconst 1, 1) := dk_4 (dk_at dksX10_canKeep_1 23 rfl rfl)
theorem dX10_canKeep_48 : decode cX10_canKeep 48 = .ok (.iadd, 1) := dk_96 (dk_at dksX10_canKeep_2 0 rfl rfl)
theorem dX10_canKeep_49 : decode cX10_canKeep 49 = .ok (.iaload, 1) := dk_46 (dk_at dksX10_canKeep_2 1 rfl rfl)
theorem dX10_canKeep_50 : decode cX10_canKeep 50 = .ok (.iload 5, 2) := dk_21 5 (dk_at dksX10_canKeep_2 2 rfl rfl)
theorem dX10_canKeep_52 : decode cX10_canKeep 52 = .ok (.if_icmp .ne 30, 3) := dk_160 0 30 (dk_at dksX10_canKeep_2 4 rfl rfl)
theorem dX10_canKeep_55 : decode cX10_canKeep 55 = .ok (.aload_n 0, 1) := dk_42 (dk_at dksX10_canKeep_2 7 rfl rfl)
theorem dX10_canKeep_56 : decode cX10_canKeep 56 = .ok (.getfield 53, 3) := dk_180 0 53 (dk_at dksX10_canKeep_2 8 rfl rfl)
theorem dX10_canKeep_59 : decode cX10_canKeep 59 = .ok (.iload 6, 2) := dk_21 6 (dk_at dksX10_canKeep_2 11 rfl rfl)
theorem dX10_canKeep_61 : decode cX10_canKeep 61 = .ok (.aload_n 0, 1) := dk_42 (dk_at dksX10_canKeep_2 13 rfl rfl)
theorem dX10_canKeep_62 : decode cX10_canKeep 62 = .ok (.getfield 26, 3) := dk_180 0 26 (dk_at dksX10_canKeep_2 14 rfl rfl)
theorem dX10_canKeep_65 : decode cX10_canKeep 65 = .ok (.iconst 5, 1) := dk_8 (dk_at dksX10_canKeep_2 17 rfl rfl)
theorem dX10_canKeep_66 : decode cX10_canKeep 66 = .ok (.iload 6, 2) := dk_21 6 (dk_at dksX10_canKeep_2 18 rfl rfl)
theorem dX10_canKeep_68 : decode cX10_canKeep 68 = .ok (.imul, 1) := dk_104 (dk_at dksX10_canKeep_2 20 rfl rfl)
theorem dX10_canKeep_69 : decode cX10_canKeep 69 = .ok (.iconst 2, 1) := dk_5 (dk_at dksX10_canKeep_2 21 rfl rfl)
theorem dX10_canKeep_70 : decode cX10_canKeep 70 = .ok (.iadd, 1) := dk_96 (dk_at dksX10_canKeep_2 22 rfl rfl)
theorem dX10_canKeep_71 : decode cX10_canKeep 71 = .ok (.iaload, 1) := dk_46 (dk_at dksX10_canKeep_2 23 rfl rfl)
theorem dX10_canKeep_72 : decode cX10_canKeep 72 = .ok (.iastore, 1) := dk_79 (dk_at dksX10_canKeep_3 0 rfl rfl)
theorem dX10_canKeep_73 : decode cX10_canKeep 73 = .ok (.iload 4, 2) := dk_21 4 (dk_at dksX10_canKeep_3 1 rfl rfl)
theorem dX10_canKeep_75 : decode cX10_canKeep 75 = .ok (.iconst 1, 1) := dk_4 (dk_at dksX10_canKeep_3 3 rfl rfl)
theorem dX10_canKeep_76 : decode cX10_canKeep 76 = .ok (.iload 6, 2) := dk_21 6 (dk_at dksX10_canKeep_3 4 rfl rfl)
theorem dX10_canKeep_78 : decode cX10_canKeep 78 = .ok (.ishl, 1) := dk_120 (dk_at dksX10_canKeep_3 6 rfl rfl)
theorem dX10_canKeep_79 : decode cX10_canKeep 79 = .ok (.ior, 1) := dk_128 (dk_at dksX10_canKeep_3 7 rfl rfl)
theorem dX10_canKeep_80 : decode cX10_canKeep 80 = .ok (.istore 4, 2) := dk_54 4 (dk_at dksX10_canKeep_3 8 rfl rfl)
theorem dX10_canKeep_82 : decode cX10_canKeep 82 = .ok (.iinc 6 1, 3) := dk_132 6 1 (dk_at dksX10_canKeep_3 10 rfl rfl)
theorem dX10_canKeep_85 : decode cX10_canKeep 85 = .ok (.goto (-64), 3) := dk_167 255 192 (dk_at dksX10_canKeep_3 13 rfl rfl)
theorem dX10_canKeep_88 : decode cX10_canKeep 88 = .ok (.iload 4, 2) := dk_21 4 (dk_at dksX10_canKeep_3 16 rfl rfl)
theorem dX10_canKeep_90 : decode cX10_canKeep 90 = .ok (.invokestatic 180, 3) := dk_184 0 180 (dk_at dksX10_canKeep_3 18 rfl rfl)
theorem dX10_canKeep_93 : decode cX10_canKeep 93 = .ok (.iload_n 2, 1) := dk_28 (dk_at dksX10_canKeep_3 21 rfl rfl)
theorem dX10_canKeep_94 : decode cX10_canKeep 94 = .ok (.if_icmp .le 5, 3) := dk_164 0 5 (dk_at dksX10_canKeep_4 0 rfl rfl)
theorem dX10_canKeep_97 : decode cX10_canKeep 97 = .ok (.iconst 0, 1) := dk_3 (dk_at dksX10_canKeep_4 3 rfl rfl)
theorem dX10_canKeep_98 : decode cX10_canKeep 98 = .ok (.ireturn, 1) := dk_172 (dk_at dksX10_canKeep_4 4 rfl rfl)
theorem dX10_canKeep_99 : decode cX10_canKeep 99 = .ok (.iload_n 3, 1) := dk_29 (dk_at dksX10_canKeep_4 5 rfl rfl)
theorem dX10_canKeep_100 : decode cX10_canKeep 100 = .ok (.istore 6, 2) := dk_54 6 (dk_at dksX10_canKeep_4 6 rfl rfl)
theorem dX10_canKeep_102 : decode cX10_canKeep 102 = .ok (.iload 5, 2) := dk_21 5 (dk_at dksX10_canKeep_4 8 rfl rfl)
theorem dX10_canKeep_104 : decode cX10_canKeep 104 = .ok (.istore 7, 2) := dk_54 7 (dk_at dksX10_canKeep_4 10 rfl rfl)
theorem dX10_canKeep_106 : decode cX10_canKeep 106 = .ok (.iload 7, 2) := dk_21 7 (dk_at dksX10_canKeep_4 12 rfl rfl)
theorem dX10_canKeep_108 : decode cX10_canKeep 108 = .ok (.bipush 10, 2) := dk_16 10 (dk_at dksX10_canKeep_4 14 rfl rfl)
theorem dX10_canKeep_110 : decode cX10_canKeep 110 = .ok (.if_icmp .ge 111, 3) := dk_162 0 111 (dk_at dksX10_canKeep_4 16 rfl rfl)
theorem dX10_canKeep_113 : decode cX10_canKeep 113 = .ok (.iconst 0, 1) := dk_3 (dk_at dksX10_canKeep_4 19 rfl rfl)
theorem dX10_canKeep_114 : decode cX10_canKeep 114 = .ok (.istore 8, 2) := dk_54 8 (dk_at dksX10_canKeep_4 20 rfl rfl)
theorem dX10_canKeep_116 : decode cX10_canKeep 116 = .ok (.iload 8, 2) := dk_21 8 (dk_at dksX10_canKeep_4 22 rfl rfl)
theorem dX10_canKeep_118 : decode cX10_canKeep 118 = .ok (.aload_n 0, 1) := dk_42 (dk_at dksX10_canKeep_5 0 rfl rfl)
theorem dX10_canKeep_119 : decode cX10_canKeep 119 = .ok (.getfield 71, 3) := dk_180 0 71 (dk_at dksX10_canKeep_5 1 rfl rfl)
theorem dX10_canKeep_122 : decode cX10_canKeep 122 = .ok (.if_icmp .ge 93, 3) := dk_162 0 93 (dk_at dksX10_canKeep_5 4 rfl rfl)
theorem dX10_canKeep_125 : decode cX10_canKeep 125 = .ok (.iload 4, 2) := dk_21 4 (dk_at dksX10_canKeep_5 7 rfl rfl)
theorem dX10_canKeep_127 : decode cX10_canKeep 127 = .ok (.iload 8, 2) := dk_21 8 (dk_at dksX10_canKeep_5 9 rfl rfl)
theorem dX10_canKeep_129 : decode cX10_canKeep 129 = .ok (.invokestatic 176, 3) := dk_184 0 176 (dk_at dksX10_canKeep_5 11 rfl rfl)
theorem dX10_canKeep_132 : decode cX10_canKeep 132 = .ok (.ifCond .eq 77, 3) := dk_153 0 77 (dk_at dksX10_canKeep_5 14 rfl rfl)
theorem dX10_canKeep_135 : decode cX10_canKeep 135 = .ok (.aload_n 0, 1) := dk_42 (dk_at dksX10_canKeep_5 17 rfl rfl)
theorem dX10_canKeep_136 : decode cX10_canKeep 136 = .ok (.getfield 26, 3) := dk_180 0 26 (dk_at dksX10_canKeep_5 18 rfl rfl)
theorem dX10_canKeep_139 : decode cX10_canKeep 139 = .ok (.iconst 5, 1) := dk_8 (dk_at dksX10_canKeep_5 21 rfl rfl)
theorem dX10_canKeep_140 : decode cX10_canKeep 140 = .ok (.iload 8, 2) := dk_21 8 (dk_at dksX10_canKeep_5 22 rfl rfl)
theorem dX10_canKeep_142 : decode cX10_canKeep 142 = .ok (.imul, 1) := dk_104 (dk_at dksX10_canKeep_6 0 rfl rfl)
theorem dX10_canKeep_143 : decode cX10_canKeep 143 = .ok (.iconst 4, 1) := dk_7 (dk_at dksX10_canKeep_6 1 rfl rfl)
theorem dX10_canKeep_144 : decode cX10_canKeep 144 = .ok (.iadd, 1) := dk_96 (dk_at dksX10_canKeep_6 2 rfl rfl)
theorem dX10_canKeep_145 : decode cX10_canKeep 145 = .ok (.iaload, 1) := dk_46 (dk_at dksX10_canKeep_6 3 rfl rfl)
theorem dX10_canKeep_146 : decode cX10_canKeep 146 = .ok (.iload 7, 2) := dk_21 7 (dk_at dksX10_canKeep_6 4 rfl rfl)
theorem dX10_canKeep_148 : decode cX10_canKeep 148 = .ok (.if_icmp .ne 61, 3) := dk_160 0 61 (dk_at dksX10_canKeep_6 6 rfl rfl)
theorem dX10_canKeep_151 : decode cX10_canKeep 151 = .ok (.iload 6, 2) := dk_21 6 (dk_at dksX10_canKeep_6 9 rfl rfl)
theorem dX10_canKeep_153 : decode cX10_canKeep 153 = .ok (.aload_n 0, 1) := dk_42 (dk_at dksX10_canKeep_6 11 rfl rfl)
theorem dX10_canKeep_154 : decode cX10_canKeep 154 = .ok (.getfield 53, 3) := dk_180 0 53 (dk_at dksX10_canKeep_6 12 rfl rfl)
theorem dX10_canKeep_157 : decode cX10_canKeep 157 = .ok (.iload 8, 2) := dk_21 8 (dk_at dksX10_canKeep_6 15 rfl rfl)
theorem dX10_canKeep_159 : decode cX10_canKeep 159 = .ok (.iaload, 1) := dk_46 (dk_at dksX10_canKeep_6 17 rfl rfl)
theorem dX10_canKeep_160 : decode cX10_canKeep 160 = .ok (.invokestatic 95, 3) := dk_184 0 95 (dk_at dksX10_canKeep_6 18 rfl rfl)
theorem dX10_canKeep_163 : decode cX10_canKeep 163 = .ok (.istore 9, 2) := dk_54 9 (dk_at dksX10_canKeep_6 21 rfl rfl)
theorem dX10_canKeep_165 : decode cX10_canKeep 165 = .ok (.aload_n 0, 1) := dk_42 (dk_at dksX10_canKeep_6 23 rfl rfl)
theorem dX10_canKeep_166 : decode cX10_canKeep 166 = .ok (.getfield 53, 3) := dk_180 0 53 (dk_at dksX10_canKeep_7 0 rfl rfl)
theorem dX10_canKeep_169 : decode cX10_canKeep 169 = .ok (.iload 8, 2) := dk_21 8 (dk_at dksX10_canKeep_7 3 rfl rfl)
theorem dX10_canKeep_171 : decode cX10_canKeep 171 = .ok (.dup2, 1) := dk_92 (dk_at dksX10_canKeep_7 5 rfl rfl)
theorem dX10_canKeep_172 : decode cX10_canKeep 172 = .ok (.iaload, 1) := dk_46 (dk_at dksX10_canKeep_7 6 rfl rfl)
theorem dX10_canKeep_173 : decode cX10_canKeep 173 = .ok (.iload 9, 2) := dk_21 9 (dk_at dksX10_canKeep_7 7 rfl rfl)
theorem dX10_canKeep_175 : decode cX10_canKeep 175 = .ok (.isub, 1) := dk_100 (dk_at dksX10_canKeep_7 9 rfl rfl)
theorem dX10_canKeep_176 : decode cX10_canKeep 176 = .ok (.iastore, 1) := dk_79 (dk_at dksX10_canKeep_7 10 rfl rfl)
theorem dX10_canKeep_177 : decode cX10_canKeep 177 = .ok (.iload 6, 2) := dk_21 6 (dk_at dksX10_canKeep_7 11 rfl rfl)
theorem dX10_canKeep_179 : decode cX10_canKeep 179 = .ok (.iload 9, 2) := dk_21 9 (dk_at dksX10_canKeep_7 13 rfl rfl)
theorem dX10_canKeep_181 : decode cX10_canKeep 181 = .ok (.isub, 1) := dk_100 (dk_at dksX10_canKeep_7 15 rfl rfl)
theorem dX10_canKeep_182 : decode cX10_canKeep 182 = .ok (.istore 6, 2) := dk_54 6 (dk_at dksX10_canKeep_7 16 rfl rfl)
theorem dX10_canKeep_184 : decode cX10_canKeep 184 = .ok (.iload 4, 2) := dk_21 4 (dk_at dksX10_canKeep_7 18 rfl rfl)
theorem dX10_canKeep_186 : decode cX10_canKeep 186 = .ok (.aload_n 0, 1) := dk_42 (dk_at dksX10_canKeep_7 20 rfl rfl)
theorem dX10_canKeep_187 : decode cX10_canKeep 187 = .ok (.getfield 53, 3) := dk_180 0 53 (dk_at dksX10_canKeep_7 21 rfl rfl)
theorem dX10_canKeep_190 : decode cX10_canKeep 190 = .ok (.iload 8, 2) := dk_21 8 (dk_at dksX10_canKeep_8 0 rfl rfl)
theorem dX10_canKeep_192 : decode cX10_canKeep 192 = .ok (.iaload, 1) := dk_46 (dk_at dksX10_canKeep_8 2 rfl rfl)
theorem dX10_canKeep_193 : decode cX10_canKeep 193 = .ok (.ifCond .ne 12, 3) := dk_154 0 12 (dk_at dksX10_canKeep_8 3 rfl rfl)
theorem dX10_canKeep_196 : decode cX10_canKeep 196 = .ok (.iconst 1, 1) := dk_4 (dk_at dksX10_canKeep_8 6 rfl rfl)
theorem dX10_canKeep_197 : decode cX10_canKeep 197 = .ok (.iload 8, 2) := dk_21 8 (dk_at dksX10_canKeep_8 7 rfl rfl)
theorem dX10_canKeep_199 : decode cX10_canKeep 199 = .ok (.ishl, 1) := dk_120 (dk_at dksX10_canKeep_8 9 rfl rfl)
theorem dX10_canKeep_200 : decode cX10_canKeep 200 = .ok (.iconst (-1), 1) := dk_2 (dk_at dksX10_canKeep_8 10 rfl rfl)
theorem dX10_canKeep_201 : decode cX10_canKeep 201 = .ok (.ixor, 1) := dk_130 (dk_at dksX10_canKeep_8 11 rfl rfl)
theorem dX10_canKeep_202 : decode cX10_canKeep 202 = .ok (.goto 4, 3) := dk_167 0 4 (dk_at dksX10_canKeep_8 12 rfl rfl)
theorem dX10_canKeep_205 : decode cX10_canKeep 205 = .ok (.iconst (-1), 1) := dk_2 (dk_at dksX10_canKeep_8 15 rfl rfl)
theorem dX10_canKeep_206 : decode cX10_canKeep 206 = .ok (.iand, 1) := dk_126 (dk_at dksX10_canKeep_8 16 rfl rfl)
theorem dX10_canKeep_207 : decode cX10_canKeep 207 = .ok (.istore 4, 2) := dk_54 4 (dk_at dksX10_canKeep_8 17 rfl rfl)
theorem dX10_canKeep_209 : decode cX10_canKeep 209 = .ok (.iinc 8 1, 3) := dk_132 8 1 (dk_at dksX10_canKeep_8 19 rfl rfl)
theorem dX10_canKeep_212 : decode cX10_canKeep 212 = .ok (.goto (-96), 3) := dk_167 255 160 (dk_at dksX10_canKeep_9 0 rfl rfl)
theorem dX10_canKeep_215 : decode cX10_canKeep 215 = .ok (.iinc 7 1, 3) := dk_132 7 1 (dk_at dksX10_canKeep_9 3 rfl rfl)
theorem dX10_canKeep_218 : decode cX10_canKeep 218 = .ok (.goto (-112), 3) := dk_167 255 144 (dk_at dksX10_canKeep_9 6 rfl rfl)
theorem dX10_canKeep_221 : decode cX10_canKeep 221 = .ok (.iconst 0, 1) := dk_3 (dk_at dksX10_canKeep_9 9 rfl rfl)
theorem dX10_canKeep_222 : decode cX10_canKeep 222 = .ok (.istore 7, 2) := dk_54 7 (dk_at dksX10_canKeep_9 10 rfl rfl)
theorem dX10_canKeep_224 : decode cX10_canKeep 224 = .ok (.iload 7, 2) := dk_21 7 (dk_at dksX10_canKeep_9 12 rfl rfl)
theorem dX10_canKeep_226 : decode cX10_canKeep 226 = .ok (.aload_n 0, 1) := dk_42 (dk_at dksX10_canKeep_9 14 rfl rfl)
theorem dX10_canKeep_227 : decode cX10_canKeep 227 = .ok (.getfield 71, 3) := dk_180 0 71 (dk_at dksX10_canKeep_9 15 rfl rfl)
theorem dX10_canKeep_230 : decode cX10_canKeep 230 = .ok (.if_icmp .ge 37, 3) := dk_162 0 37 (dk_at dksX10_canKeep_9 18 rfl rfl)
theorem dX10_canKeep_233 : decode cX10_canKeep 233 = .ok (.iload 4, 2) := dk_21 4 (dk_at dksX10_canKeep_9 21 rfl rfl)
theorem dX10_canKeep_235 : decode cX10_canKeep 235 = .ok (.iload 7, 2) := dk_21 7 (dk_at dksX10_canKeep_10 0 rfl rfl)
theorem dX10_canKeep_237 : decode cX10_canKeep 237 = .ok (.invokestatic 176, 3) := dk_184 0 176 (dk_at dksX10_canKeep_10 2 rfl rfl)
theorem dX10_canKeep_240 : decode cX10_canKeep 240 = .ok (.ifCond .eq 21, 3) := dk_153 0 21 (dk_at dksX10_canKeep_10 5 rfl rfl)
theorem dX10_canKeep_243 : decode cX10_canKeep 243 = .ok (.aload_n 0, 1) := dk_42 (dk_at dksX10_canKeep_10 8 rfl rfl)
theorem dX10_canKeep_244 : decode cX10_canKeep 244 = .ok (.getfield 26, 3) := dk_180 0 26 (dk_at dksX10_canKeep_10 9 rfl rfl)
theorem dX10_canKeep_247 : decode cX10_canKeep 247 = .ok (.iconst 5, 1) := dk_8 (dk_at dksX10_canKeep_10 12 rfl rfl)
theorem dX10_canKeep_248 : decode cX10_canKeep 248 = .ok (.iload 7, 2) := dk_21 7 (dk_at dksX10_canKeep_10 13 rfl rfl)
theorem dX10_canKeep_250 : decode cX10_canKeep 250 = .ok (.imul, 1) := dk_104 (dk_at dksX10_canKeep_10 15 rfl rfl)
theorem dX10_canKeep_251 : decode cX10_canKeep 251 = .ok (.iconst 4, 1) := dk_7 (dk_at dksX10_canKeep_10 16 rfl rfl)
theorem dX10_canKeep_252 : decode cX10_canKeep 252 = .ok (.iadd, 1) := dk_96 (dk_at dksX10_canKeep_10 17 rfl rfl)
theorem dX10_canKeep_253 : decode cX10_canKeep 253 = .ok (.iaload, 1) := dk_46 (dk_at dksX10_canKeep_10 18 rfl rfl)
theorem dX10_canKeep_254 : decode cX10_canKeep 254 = .ok (.iload 5, 2) := dk_21 5 (dk_at dksX10_canKeep_10 19 rfl rfl)
theorem dX10_canKeep_256 : decode cX10_canKeep 256 = .ok (.if_icmp .ne 5, 3) := dk_160 0 5 (dk_at dksX10_canKeep_10 21 rfl rfl)
theorem dX10_canKeep_259 : decode cX10_canKeep 259 = .ok (.iconst 0, 1) := dk_3 (dk_at dksX10_canKeep_11 0 rfl rfl)
theorem dX10_canKeep_260 : decode cX10_canKeep 260 = .ok (.ireturn, 1) := dk_172 (dk_at dksX10_canKeep_11 1 rfl rfl)
theorem dX10_canKeep_261 : decode cX10_canKeep 261 = .ok (.iinc 7 1, 3) := dk_132 7 1 (dk_at dksX10_canKeep_11 2 rfl rfl)
theorem dX10_canKeep_264 : decode cX10_canKeep 264 = .ok (.goto (-40), 3) := dk_167 255 216 (dk_at dksX10_canKeep_11 5 rfl rfl)
theorem dX10_canKeep_267 : decode cX10_canKeep 267 = .ok (.iinc 5 1, 3) := dk_132 5 1 (dk_at dksX10_canKeep_11 8 rfl rfl)
theorem dX10_canKeep_270 : decode cX10_canKeep 270 = .ok (.goto (-259), 3) := dk_167 254 253 (dk_at dksX10_canKeep_11 11 rfl rfl)
theorem dX10_canKeep_273 : decode cX10_canKeep 273 = .ok (.iconst 1, 1) := dk_4 (dk_at dksX10_canKeep_11 14 rfl rfl)
theorem dX10_canKeep_274 : decode cX10_canKeep 274 = .ok (.ireturn, 1) := dk_172 (dk_at dksX10_canKeep_11 15 rfl rfl)
abbrev cX10_ones : ByteArray := prog_14_method_5_code
def yX10_ones : MethodName := ⟨RX10, "ones", "(I)I"⟩
def dkwX10_ones_1 : List UInt8 := [27, 172]
abbrev dktX10_ones_1 : List UInt8 := dkwX10_ones_1 ++ []
def dkwX10_ones_0 : List UInt8 := [3, 60, 3, 61, 28, 16, 8, 162, 0, 17, 27, 26, 28, 122, 4, 126, 96, 60, 132, 2, 1, 167, 255, 239]
abbrev dktX10_ones_0 : List UInt8 := dkwX10_ones_0 ++ dktX10_ones_1
theorem dksX10_ones_0 : cX10_ones.data.toList.drop 0 = dktX10_ones_0 := by decide +kernel
theorem dksX10_ones_1 : cX10_ones.data.toList.drop 24 = dktX10_ones_1 := dk_seg dksX10_ones_0 24 rfl rfl
theorem dX10_ones_0 : decode cX10_ones 0 = .ok (.iconst 0, 1) := dk_3 (dk_at dksX10_ones_0 0 rfl rfl)
theorem dX10_ones_1 : decode cX10_ones 1 = .ok (.istore_n 1, 1) := dk_60 (dk_at dksX10_ones_0 1 rfl rfl)
theorem dX10_ones_2 : decode cX10_ones 2 = .ok (.iconst 0, 1) := dk_3 (dk_at dksX10_ones_0 2 rfl rfl)
theorem dX10_ones_3 : decode cX10_ones 3 = .ok (.istore_n 2, 1) := dk_61 (dk_at dksX10_ones_0 3 rfl rfl)
theorem dX10_ones_4 : decode cX10_ones 4 = .ok (.iload_n 2, 1) := dk_28 (dk_at dksX10_ones_0 4 rfl rfl)
theorem dX10_ones_5 : decode cX10_ones 5 = .ok (.bipush 8, 2) := dk_16 8 (dk_at dksX10_ones_0 5 rfl rfl)
theorem dX10_ones_7 : decode cX10_ones 7 = .ok (.if_icmp .ge 17, 3) := dk_162 0 17 (dk_at dksX10_ones_0 7 rfl rfl)
theorem dX10_ones_10 : decode cX10_ones 10 = .ok (.iload_n 1, 1) := dk_27 (dk_at dksX10_ones_0 10 rfl rfl)
theorem dX10_ones_11 : decode cX10_ones 11 = .ok (.iload_n 0, 1) := dk_26 (dk_at dksX10_ones_0 11 rfl rfl)
theorem dX10_ones_12 : decode cX10_ones 12 = .ok (.iload_n 2, 1) := dk_28 (dk_at dksX10_ones_0 12 rfl rfl)
theorem dX10_ones_13 : decode cX10_ones 13 = .ok (.ishr, 1) := dk_122 (dk_at dksX10_ones_0 13 rfl rfl)
theorem dX10_ones_14 : decode cX10_ones 14 = .ok (.iconst 1, 1) := dk_4 (dk_at dksX10_ones_0 14 rfl rfl)
theorem dX10_ones_15 : decode cX10_ones 15 = .ok (.iand, 1) := dk_126 (dk_at dksX10_ones_0 15 rfl rfl)
theorem dX10_ones_16 : decode cX10_ones 16 = .ok (.iadd, 1) := dk_96 (dk_at dksX10_ones_0 16 rfl rfl)
theorem dX10_ones_17 : decode cX10_ones 17 = .ok (.istore_n 1, 1) := dk_60 (dk_at dksX10_ones_0 17 rfl rfl)
theorem dX10_ones_18 : decode cX10_ones 18 = .ok (.iinc 2 1, 3) := dk_132 2 1 (dk_at dksX10_ones_0 18 rfl rfl)
theorem dX10_ones_21 : decode cX10_ones 21 = .ok (.goto (-17), 3) := dk_167 255 239 (dk_at dksX10_ones_0 21 rfl rfl)
theorem dX10_ones_24 : decode cX10_ones 24 = .ok (.iload_n 1, 1) := dk_27 (dk_at dksX10_ones_1 0 rfl rfl)
theorem dX10_ones_25 : decode cX10_ones 25 = .ok (.ireturn, 1) := dk_172 (dk_at dksX10_ones_1 1 rfl rfl)
abbrev cX10_bound : ByteArray := prog_14_method_38_code
def yX10_bound : MethodName := ⟨RX10, "bound", "(II)I"⟩
def dkwX10_bound_2 : List UInt8 := [180, 0, 17, 27, 46, 16, 99, 182, 0, 190, 182, 0, 183, 172]
abbrev dktX10_bound_2 : List UInt8 := dkwX10_bound_2 ++ []
def dkwX10_bound_1 : List UInt8 := [154, 0, 19, 42, 27, 16, 8, 42, 180, 0, 20, 27, 46, 182, 0, 190, 167, 0, 16, 42, 27, 42]
abbrev dktX10_bound_1 : List UInt8 := dkwX10_bound_1 ++ dktX10_bound_2
def dkwX10_bound_0 : List UInt8 := [42, 27, 182, 0, 136, 153, 0, 13, 28, 133, 9, 10, 184, 0, 67, 154, 0, 5, 2, 172, 42, 28]
abbrev dktX10_bound_0 : List UInt8 := dkwX10_bound_0 ++ dktX10_bound_1
theorem dksX10_bound_0 : cX10_bound.data.toList.drop 0 = dktX10_bound_0 := by decide +kernel
theorem dksX10_bound_1 : cX10_bound.data.toList.drop 22 = dktX10_bound_1 := dk_seg dksX10_bound_0 22 rfl rfl
theorem dksX10_bound_2 : cX10_bound.data.toList.drop 44 = dktX10_bound_2 := dk_seg dksX10_bound_1 22 rfl rfl
theorem dX10_bound_0 : decode cX10_bound 0 = .ok (.aload_n 0, 1) := dk_42 (dk_at dksX10_bound_0 0 rfl rfl)
theorem dX10_bound_1 : decode cX10_bound 1 = .ok (.iload_n 1, 1) := dk_27 (dk_at dksX10_bound_0 1 rfl rfl)
theorem dX10_bound_2 : decode cX10_bound 2 = .ok (.invokevirtual 136, 3) := dk_182 0 136 (dk_at dksX10_bound_0 2 rfl rfl)
theorem dX10_bound_5 : decode cX10_bound 5 = .ok (.ifCond .eq 13, 3) := dk_153 0 13 (dk_at dksX10_bound_0 5 rfl rfl)
theorem dX10_bound_8 : decode cX10_bound 8 = .ok (.iload_n 2, 1) := dk_28 (dk_at dksX10_bound_0 8 rfl rfl)
theorem dX10_bound_9 : decode cX10_bound 9 = .ok (.i2l, 1) := dk_133 (dk_at dksX10_bound_0 9 rfl rfl)
theorem dX10_bound_10 : decode cX10_bound 10 = .ok (.lconst 0, 1) := dk_9 (dk_at dksX10_bound_0 10 rfl rfl)
theorem dX10_bound_11 : decode cX10_bound 11 = .ok (.lconst 1, 1) := dk_10 (dk_at dksX10_bound_0 11 rfl rfl)
theorem dX10_bound_12 : decode cX10_bound 12 = .ok (.invokestatic 67, 3) := dk_184 0 67 (dk_at dksX10_bound_0 12 rfl rfl)
theorem dX10_bound_15 : decode cX10_bound 15 = .ok (.ifCond .ne 5, 3) := dk_154 0 5 (dk_at dksX10_bound_0 15 rfl rfl)
theorem dX10_bound_18 : decode cX10_bound 18 = .ok (.iconst (-1), 1) := dk_2 (dk_at dksX10_bound_0 18 rfl rfl)
theorem dX10_bound_19 : decode cX10_bound 19 = .ok (.ireturn, 1) := dk_172 (dk_at dksX10_bound_0 19 rfl rfl)
theorem dX10_bound_20 : decode cX10_bound 20 = .ok (.aload_n 0, 1) := dk_42 (dk_at dksX10_bound_0 20 rfl rfl)
theorem dX10_bound_21 : decode cX10_bound 21 = .ok (.iload_n 2, 1) := dk_28 (dk_at dksX10_bound_0 21 rfl rfl)
theorem dX10_bound_22 : decode cX10_bound 22 = .ok (.ifCond .ne 19, 3) := dk_154 0 19 (dk_at dksX10_bound_1 0 rfl rfl)
theorem dX10_bound_25 : decode cX10_bound 25 = .ok (.aload_n 0, 1) := dk_42 (dk_at dksX10_bound_1 3 rfl rfl)
theorem dX10_bound_26 : decode cX10_bound 26 = .ok (.iload_n 1, 1) := dk_27 (dk_at dksX10_bound_1 4 rfl rfl)
theorem dX10_bound_27 : decode cX10_bound 27 = .ok (.bipush 8, 2) := dk_16 8 (dk_at dksX10_bound_1 5 rfl rfl)
theorem dX10_bound_29 : decode cX10_bound 29 = .ok (.aload_n 0, 1) := dk_42 (dk_at dksX10_bound_1 7 rfl rfl)
theorem dX10_bound_30 : decode cX10_bound 30 = .ok (.getfield 20, 3) := dk_180 0 20 (dk_at dksX10_bound_1 8 rfl rfl)
theorem dX10_bound_33 : decode cX10_bound 33 = .ok (.iload_n 1, 1) := dk_27 (dk_at dksX10_bound_1 11 rfl rfl)
theorem dX10_bound_34 : decode cX10_bound 34 = .ok (.iaload, 1) := dk_46 (dk_at dksX10_bound_1 12 rfl rfl)
theorem dX10_bound_35 : decode cX10_bound 35 = .ok (.invokevirtual 190, 3) := dk_182 0 190 (dk_at dksX10_bound_1 13 rfl rfl)
theorem dX10_bound_38 : decode cX10_bound 38 = .ok (.goto 16, 3) := dk_167 0 16 (dk_at dksX10_bound_1 16 rfl rfl)
theorem dX10_bound_41 : decode cX10_bound 41 = .ok (.aload_n 0, 1) := dk_42 (dk_at dksX10_bound_1 19 rfl rfl)
theorem dX10_bound_42 : decode cX10_bound 42 = .ok (.iload_n 1, 1) := dk_27 (dk_at dksX10_bound_1 20 rfl rfl)
theorem dX10_bound_43 : decode cX10_bound 43 = .ok (.aload_n 0, 1) := dk_42 (dk_at dksX10_bound_1 21 rfl rfl)
theorem dX10_bound_44 : decode cX10_bound 44 = .ok (.getfield 17, 3) := dk_180 0 17 (dk_at dksX10_bound_2 0 rfl rfl)
theorem dX10_bound_47 : decode cX10_bound 47 = .ok (.iload_n 1, 1) := dk_27 (dk_at dksX10_bound_2 3 rfl rfl)
theorem dX10_bound_48 : decode cX10_bound 48 = .ok (.iaload, 1) := dk_46 (dk_at dksX10_bound_2 4 rfl rfl)
theorem dX10_bound_49 : decode cX10_bound 49 = .ok (.bipush 99, 2) := dk_16 99 (dk_at dksX10_bound_2 5 rfl rfl)
theorem dX10_bound_51 : decode cX10_bound 51 = .ok (.invokevirtual 190, 3) := dk_182 0 190 (dk_at dksX10_bound_2 7 rfl rfl)
theorem dX10_bound_54 : decode cX10_bound 54 = .ok (.invokevirtual 183, 3) := dk_182 0 183 (dk_at dksX10_bound_2 10 rfl rfl)
theorem dX10_bound_57 : decode cX10_bound 57 = .ok (.ireturn, 1) := dk_172 (dk_at dksX10_bound_2 13 rfl rfl)
abbrev cX10_sort : ByteArray := prog_14_method_40_code
def yX10_sort : MethodName := ⟨RX10, "sort", "(IIII)I"⟩
def dkwX10_sort_5 : List UInt8 := [182, 0, 199, 172]
abbrev dktX10_sort_5 : List UInt8 := dkwX10_sort_5 ++ []
def dkwX10_sort_4 : List UInt8 := [79, 42, 180, 0, 38, 27, 21, 4, 79, 42, 89, 180, 0, 202, 4, 27, 120, 128, 181, 0, 202, 42]
abbrev dktX10_sort_4 : List UInt8 := dkwX10_sort_4 ++ dktX10_sort_5
def dkwX10_sort_3 : List UInt8 := [46, 100, 28, 96, 16, 10, 164, 0, 5, 2, 172, 42, 180, 0, 32, 27, 28, 79, 42, 180, 0, 35, 27, 29]
abbrev dktX10_sort_3 : List UInt8 := dkwX10_sort_3 ++ dktX10_sort_4
def dkwX10_sort_2 : List UInt8 := [153, 0, 7, 4, 167, 0, 4, 3, 54, 5, 21, 5, 153, 0, 21, 42, 182, 0, 199, 42, 180, 0, 32, 27]
abbrev dktX10_sort_2 : List UInt8 := dkwX10_sort_2 ++ dktX10_sort_3
def dkwX10_sort_1 : List UInt8 := [29, 133, 10, 20, 0, 197, 184, 0, 67, 153, 0, 20, 21, 4, 133, 10, 20, 0, 140, 184, 0, 67]
abbrev dktX10_sort_1 : List UInt8 := dkwX10_sort_1 ++ dktX10_sort_2
def dkwX10_sort_0 : List UInt8 := [27, 133, 9, 20, 0, 193, 184, 0, 67, 153, 0, 44, 28, 133, 9, 20, 0, 195, 184, 0, 67, 153, 0, 32]
abbrev dktX10_sort_0 : List UInt8 := dkwX10_sort_0 ++ dktX10_sort_1
theorem dksX10_sort_0 : cX10_sort.data.toList.drop 0 = dktX10_sort_0 := by decide +kernel
theorem dksX10_sort_1 : cX10_sort.data.toList.drop 24 = dktX10_sort_1 := dk_seg dksX10_sort_0 24 rfl rfl
theorem dksX10_sort_2 : cX10_sort.data.toList.drop 46 = dktX10_sort_2 := dk_seg dksX10_sort_1 22 rfl rfl
theorem dksX10_sort_3 : cX10_sort.data.toList.drop 70 = dktX10_sort_3 := dk_seg dksX10_sort_2 24 rfl rfl
theorem dksX10_sort_4 : cX10_sort.data.toList.drop 94 = dktX10_sort_4 := dk_seg dksX10_sort_3 24 rfl rfl
theorem dksX10_sort_5 : cX10_sort.data.toList.drop 116 = dktX10_sort_5 := dk_seg dksX10_sort_4 22 rfl rfl
theorem dX10_sort_0 : decode cX10_sort 0 = .ok (.iload_n 1, 1) := dk_27 (dk_at dksX10_sort_0 0 rfl rfl)
theorem dX10_sort_1 : decode cX10_sort 1 = .ok (.i2l, 1) := dk_133 (dk_at dksX10_sort_0 1 rfl rfl)
theorem dX10_sort_2 : decode cX10_sort 2 = .ok (.lconst 0, 1) := dk_9 (dk_at dksX10_sort_0 2 rfl rfl)
theorem dX10_sort_3 : decode cX10_sort 3 = .ok (.ldc2_w 193, 3) := dk_20 0 193 (dk_at dksX10_sort_0 3 rfl rfl)
theorem dX10_sort_6 : decode cX10_sort 6 = .ok (.invokestatic 67, 3) := dk_184 0 67 (dk_at dksX10_sort_0 6 rfl rfl)
theorem dX10_sort_9 : decode cX10_sort 9 = .ok (.ifCond .eq 44, 3) := dk_153 0 44 (dk_at dksX10_sort_0 9 rfl rfl)
theorem dX10_sort_12 : decode cX10_sort 12 = .ok (.iload_n 2, 1) := dk_28 (dk_at dksX10_sort_0 12 rfl rfl)
theorem dX10_sort_13 : decode cX10_sort 13 = .ok (.i2l, 1) := dk_133 (dk_at dksX10_sort_0 13 rfl rfl)
theorem dX10_sort_14 : decode cX10_sort 14 = .ok (.lconst 0, 1) := dk_9 (dk_at dksX10_sort_0 14 rfl rfl)
theorem dX10_sort_15 : decode cX10_sort 15 = .ok (.ldc2_w 195, 3) := dk_20 0 195 (dk_at dksX10_sort_0 15 rfl rfl)
theorem dX10_sort_18 : decode cX10_sort 18 = .ok (.invokestatic 67, 3) := dk_184 0 67 (dk_at dksX10_sort_0 18 rfl rfl)
theorem dX10_sort_21 : decode cX10_sort 21 = .ok (.ifCond .eq 32, 3) := dk_153 0 32 (dk_at dksX10_sort_0 21 rfl rfl)
theorem dX10_sort_24 : decode cX10_sort 24 = .ok (.iload_n 3, 1) := dk_29 (dk_at dksX10_sort_1 0 rfl rfl)
theorem dX10_sort_25 : decode cX10_sort 25 = .ok (.i2l, 1) := dk_133 (dk_at dksX10_sort_1 1 rfl rfl)
theorem dX10_sort_26 : decode cX10_sort 26 = .ok (.lconst 1, 1) := dk_10 (dk_at dksX10_sort_1 2 rfl rfl)
theorem dX10_sort_27 : decode cX10_sort 27 = .ok (.ldc2_w 197, 3) := dk_20 0 197 (dk_at dksX10_sort_1 3 rfl rfl)
theorem dX10_sort_30 : decode cX10_sort 30 = .ok (.invokestatic 67, 3) := dk_184 0 67 (dk_at dksX10_sort_1 6 rfl rfl)
theorem dX10_sort_33 : decode cX10_sort 33 = .ok (.ifCond .eq 20, 3) := dk_153 0 20 (dk_at dksX10_sort_1 9 rfl rfl)
theorem dX10_sort_36 : decode cX10_sort 36 = .ok (.iload 4, 2) := dk_21 4 (dk_at dksX10_sort_1 12 rfl rfl)
theorem dX10_sort_38 : decode cX10_sort 38 = .ok (.i2l, 1) := dk_133 (dk_at dksX10_sort_1 14 rfl rfl)
theorem dX10_sort_39 : decode cX10_sort 39 = .ok (.lconst 1, 1) := dk_10 (dk_at dksX10_sort_1 15 rfl rfl)
theorem dX10_sort_40 : decode cX10_sort 40 = .ok (.ldc2_w 140, 3) := dk_20 0 140 (dk_at dksX10_sort_1 16 rfl rfl)
theorem dX10_sort_43 : decode cX10_sort 43 = .ok (.invokestatic 67, 3) := dk_184 0 67 (dk_at dksX10_sort_1 19 rfl rfl)
theorem dX10_sort_46 : decode cX10_sort 46 = .ok (.ifCond .eq 7, 3) := dk_153 0 7 (dk_at dksX10_sort_2 0 rfl rfl)
theorem dX10_sort_49 : decode cX10_sort 49 = .ok (.iconst 1, 1) := dk_4 (dk_at dksX10_sort_2 3 rfl rfl)
theorem dX10_sort_50 : decode cX10_sort 50 = .ok (.goto 4, 3) := dk_167 0 4 (dk_at dksX10_sort_2 4 rfl rfl)
theorem dX10_sort_53 : decode cX10_sort 53 = .ok (.iconst 0, 1) := dk_3 (dk_at dksX10_sort_2 7 rfl rfl)
theorem dX10_sort_54 : decode cX10_sort 54 = .ok (.istore 5, 2) := dk_54 5 (dk_at dksX10_sort_2 8 rfl rfl)
theorem dX10_sort_56 : decode cX10_sort 56 = .ok (.iload 5, 2) := dk_21 5 (dk_at dksX10_sort_2 10 rfl rfl)
theorem dX10_sort_58 : decode cX10_sort 58 = .ok (.ifCond .eq 21, 3) := dk_153 0 21 (dk_at dksX10_sort_2 12 rfl rfl)
theorem dX10_sort_61 : decode cX10_sort 61 = .ok (.aload_n 0, 1) := dk_42 (dk_at dksX10_sort_2 15 rfl rfl)
theorem dX10_sort_62 : decode cX10_sort 62 = .ok (.invokevirtual 199, 3) := dk_182 0 199 (dk_at dksX10_sort_2 16 rfl rfl)
theorem dX10_sort_65 : decode cX10_sort 65 = .ok (.aload_n 0, 1) := dk_42 (dk_at dksX10_sort_2 19 rfl rfl)
theorem dX10_sort_66 : decode cX10_sort 66 = .ok (.getfield 32, 3) := dk_180 0 32 (dk_at dksX10_sort_2 20 rfl rfl)
theorem dX10_sort_69 : decode cX10_sort 69 = .ok (.iload_n 1, 1) := dk_27 (dk_at dksX10_sort_2 23 rfl rfl)
theorem dX10_sort_70 : decode cX10_sort 70 = .ok (.iaload, 1) := dk_46 (dk_at dksX10_sort_3 0 rfl rfl)
theorem dX10_sort_71 : decode cX10_sort 71 = .ok (.isub, 1) := dk_100 (dk_at dksX10_sort_3 1 rfl rfl)
theorem dX10_sort_72 : decode cX10_sort 72 = .ok (.iload_n 2, 1) := dk_28 (dk_at dksX10_sort_3 2 rfl rfl)
theorem dX10_sort_73 : decode cX10_sort 73 = .ok (.iadd, 1) := dk_96 (dk_at dksX10_sort_3 3 rfl rfl)
theorem dX10_sort_74 : decode cX10_sort 74 = .ok (.bipush 10, 2) := dk_16 10 (dk_at dksX10_sort_3 4 rfl rfl)
theorem dX10_sort_76 : decode cX10_sort 76 = .ok (.if_icmp .le 5, 3) := dk_164 0 5 (dk_at dksX10_sort_3 6 rfl rfl)
theorem dX10_sort_79 : decode cX10_sort 79 = .ok (.iconst (-1), 1) := dk_2 (dk_at dksX10_sort_3 9 rfl rfl)
theorem dX10_sort_80 : decode cX10_sort 80 = .ok (.ireturn, 1) := dk_172 (dk_at dksX10_sort_3 10 rfl rfl)
theorem dX10_sort_81 : decode cX10_sort 81 = .ok (.aload_n 0, 1) := dk_42 (dk_at dksX10_sort_3 11 rfl rfl)
theorem dX10_sort_82 : decode cX10_sort 82 = .ok (.getfield 32, 3) := dk_180 0 32 (dk_at dksX10_sort_3 12 rfl rfl)
theorem dX10_sort_85 : decode cX10_sort 85 = .ok (.iload_n 1, 1) := dk_27 (dk_at dksX10_sort_3 15 rfl rfl)
theorem dX10_sort_86 : decode cX10_sort 86 = .ok (.iload_n 2, 1) := dk_28 (dk_at dksX10_sort_3 16 rfl rfl)
theorem dX10_sort_87 : decode cX10_sort 87 = .ok (.iastore, 1) := dk_79 (dk_at dksX10_sort_3 17 rfl rfl)
theorem dX10_sort_88 : decode cX10_sort 88 = .ok (.aload_n 0, 1) := dk_42 (dk_at dksX10_sort_3 18 rfl rfl)
theorem dX10_sort_89 : decode cX10_sort 89 = .ok (.getfield 35, 3) := dk_180 0 35 (dk_at dksX10_sort_3 19 rfl rfl)
theorem dX10_sort_92 : decode cX10_sort 92 = .ok (.iload_n 1, 1) := dk_27 (dk_at dksX10_sort_3 22 rfl rfl)
theorem dX10_sort_93 : decode cX10_sort 93 = .ok (.iload_n 3, 1) := dk_29 (dk_at dksX10_sort_3 23 rfl rfl)
theorem dX10_sort_94 : decode cX10_sort 94 = .ok (.iastore, 1) := dk_79 (dk_at dksX10_sort_4 0 rfl rfl)
theorem dX10_sort_95 : decode cX10_sort 95 = .ok (.aload_n 0, 1) := dk_42 (dk_at dksX10_sort_4 1 rfl rfl)
theorem dX10_sort_96 : decode cX10_sort 96 = .ok (.getfield 38, 3) := dk_180 0 38 (dk_at dksX10_sort_4 2 rfl rfl)
theorem dX10_sort_99 : decode cX10_sort 99 = .ok (.iload_n 1, 1) := dk_27 (dk_at dksX10_sort_4 5 rfl rfl)
theorem dX10_sort_100 : decode cX10_sort 100 = .ok (.iload 4, 2) := dk_21 4 (dk_at dksX10_sort_4 6 rfl rfl)
theorem dX10_sort_102 : decode cX10_sort 102 = .ok (.iastore, 1) := dk_79 (dk_at dksX10_sort_4 8 rfl rfl)
theorem dX10_sort_103 : decode cX10_sort 103 = .ok (.aload_n 0, 1) := dk_42 (dk_at dksX10_sort_4 9 rfl rfl)
theorem dX10_sort_104 : decode cX10_sort 104 = .ok (.dup, 1) := dk_89 (dk_at dksX10_sort_4 10 rfl rfl)
theorem dX10_sort_105 : decode cX10_sort 105 = .ok (.getfield 202, 3) := dk_180 0 202 (dk_at dksX10_sort_4 11 rfl rfl)
theorem dX10_sort_108 : decode cX10_sort 108 = .ok (.iconst 1, 1) := dk_4 (dk_at dksX10_sort_4 14 rfl rfl)
theorem dX10_sort_109 : decode cX10_sort 109 = .ok (.iload_n 1, 1) := dk_27 (dk_at dksX10_sort_4 15 rfl rfl)
theorem dX10_sort_110 : decode cX10_sort 110 = .ok (.ishl, 1) := dk_120 (dk_at dksX10_sort_4 16 rfl rfl)
theorem dX10_sort_111 : decode cX10_sort 111 = .ok (.ior, 1) := dk_128 (dk_at dksX10_sort_4 17 rfl rfl)
theorem dX10_sort_112 : decode cX10_sort 112 = .ok (.putfield 202, 3) := dk_181 0 202 (dk_at dksX10_sort_4 18 rfl rfl)
theorem dX10_sort_115 : decode cX10_sort 115 = .ok (.aload_n 0, 1) := dk_42 (dk_at dksX10_sort_4 21 rfl rfl)
theorem dX10_sort_116 : decode cX10_sort 116 = .ok (.invokevirtual 199, 3) := dk_182 0 199 (dk_at dksX10_sort_5 0 rfl rfl)
theorem dX10_sort_119 : decode cX10_sort 119 = .ok (.ireturn, 1) := dk_172 (dk_at dksX10_sort_5 3 rfl rfl)
abbrev cX10_allTenths : ByteArray := prog_14_method_39_code
def yX10_allTenths : MethodName := ⟨RX10, "allTenths", "()I"⟩
def dkwX10_allTenths_0 : List UInt8 := [42, 180, 0, 32, 3, 46, 42, 180, 0, 32, 4, 46, 96, 42, 180, 0, 32, 5, 46, 96, 172]
abbrev dktX10_allTenths_0 : List UInt8 := dkwX10_allTenths_0 ++ []
theorem dksX10_allTenths_0 : cX10_allTenths.data.toList.drop 0 = dktX10_allTenths_0 := by decide +kernel
theorem dX10_allTenths_0 : decode cX10_allTenths 0 = .ok (.aload_n 0, 1) := dk_42 (dk_at dksX10_allTenths_0 0 rfl rfl)
theorem dX10_allTenths_1 : decode cX10_allTenths 1 = .ok (.getfield 32, 3) := dk_180 0 32 (dk_at dksX10_allTenths_0 1 rfl rfl)
theorem dX10_allTenths_4 : decode cX10_allTenths 4 = .ok (.iconst 0, 1) := dk_3 (dk_at dksX10_allTenths_0 4 rfl rfl)
theorem dX10_allTenths_5 : decode cX10_allTenths 5 = .ok (.iaload, 1) := dk_46 (dk_at dksX10_allTenths_0 5 rfl rfl)
theorem dX10_allTenths_6 : decode cX10_allTenths 6 = .ok (.aload_n 0, 1) := dk_42 (dk_at dksX10_allTenths_0 6 rfl rfl)
theorem dX10_allTenths_7 : decode cX10_allTenths 7 = .ok (.getfield 32, 3) := dk_180 0 32 (dk_at dksX10_allTenths_0 7 rfl rfl)
theorem dX10_allTenths_10 : decode cX10_allTenths 10 = .ok (.iconst 1, 1) := dk_4 (dk_at dksX10_allTenths_0 10 rfl rfl)
theorem dX10_allTenths_11 : decode cX10_allTenths 11 = .ok (.iaload, 1) := dk_46 (dk_at dksX10_allTenths_0 11 rfl rfl)
theorem dX10_allTenths_12 : decode cX10_allTenths 12 = .ok (.iadd, 1) := dk_96 (dk_at dksX10_allTenths_0 12 rfl rfl)
theorem dX10_allTenths_13 : decode cX10_allTenths 13 = .ok (.aload_n 0, 1) := dk_42 (dk_at dksX10_allTenths_0 13 rfl rfl)
theorem dX10_allTenths_14 : decode cX10_allTenths 14 = .ok (.getfield 32, 3) := dk_180 0 32 (dk_at dksX10_allTenths_0 14 rfl rfl)
theorem dX10_allTenths_17 : decode cX10_allTenths 17 = .ok (.iconst 2, 1) := dk_5 (dk_at dksX10_allTenths_0 17 rfl rfl)
theorem dX10_allTenths_18 : decode cX10_allTenths 18 = .ok (.iaload, 1) := dk_46 (dk_at dksX10_allTenths_0 18 rfl rfl)
theorem dX10_allTenths_19 : decode cX10_allTenths 19 = .ok (.iadd, 1) := dk_96 (dk_at dksX10_allTenths_0 19 rfl rfl)
theorem dX10_allTenths_20 : decode cX10_allTenths 20 = .ok (.ireturn, 1) := dk_172 (dk_at dksX10_allTenths_0 20 rfl rfl)
abbrev cX10_expected : ByteArray := prog_14_method_43_code
def yX10_expected : MethodName := ⟨RX10, "expected", "(III)J"⟩
def dkwX10_expected_5 : List UInt8 := [22, 6, 109, 167, 0, 8, 22, 4, 22, 6, 109, 173]
abbrev dktX10_expected_5 : List UInt8 := dkwX10_expected_5 ++ []
def dkwX10_expected_4 : List UInt8 := [55, 10, 22, 8, 55, 6, 22, 10, 55, 8, 167, 255, 234, 29, 154, 0, 15, 42, 180, 0, 56, 3, 47]
abbrev dktX10_expected_4 : List UInt8 := dkwX10_expected_4 ++ dktX10_expected_5
def dkwX10_expected_3 : List UInt8 := [180, 0, 56, 3, 47, 55, 6, 22, 4, 55, 8, 22, 8, 9, 148, 153, 0, 21, 22, 6, 22, 8, 113]
abbrev dktX10_expected_3 : List UInt8 := dkwX10_expected_3 ++ dktX10_expected_4
def dkwX10_expected_2 : List UInt8 := [3, 54, 6, 21, 6, 28, 162, 0, 17, 22, 4, 20, 0, 195, 105, 55, 4, 132, 6, 1, 167, 255, 239, 42]
abbrev dktX10_expected_2 : List UInt8 := dkwX10_expected_2 ++ dktX10_expected_3
def dkwX10_expected_1 : List UInt8 := [184, 0, 67, 154, 0, 7, 20, 0, 210, 173, 42, 28, 42, 180, 0, 17, 27, 46, 182, 0, 212, 10, 55, 4]
abbrev dktX10_expected_1 : List UInt8 := dkwX10_expected_1 ++ dktX10_expected_2
def dkwX10_expected_0 : List UInt8 := [42, 27, 182, 0, 136, 153, 0, 25, 28, 133, 9, 20, 0, 208, 184, 0, 67, 153, 0, 13, 29, 133, 9, 10]
abbrev dktX10_expected_0 : List UInt8 := dkwX10_expected_0 ++ dktX10_expected_1
theorem dksX10_expected_0 : cX10_expected.data.toList.drop 0 = dktX10_expected_0 := by decide +kernel
theorem dksX10_expected_1 : cX10_expected.data.toList.drop 24 = dktX10_expected_1 := dk_seg dksX10_expected_0 24 rfl rfl
theorem dksX10_expected_2 : cX10_expected.data.toList.drop 48 = dktX10_expected_2 := dk_seg dksX10_expected_1 24 rfl rfl
theorem dksX10_expected_3 : cX10_expected.data.toList.drop 72 = dktX10_expected_3 := dk_seg dksX10_expected_2 24 rfl rfl
theorem dksX10_expected_4 : cX10_expected.data.toList.drop 95 = dktX10_expected_4 := dk_seg dksX10_expected_3 23 rfl rfl
theorem dksX10_expected_5 : cX10_expected.data.toList.drop 118 = dktX10_expected_5 := dk_seg dksX10_expected_4 23 rfl rfl
theorem dX10_expected_0 : decode cX10_expected 0 = .ok (.aload_n 0, 1) := dk_42 (dk_at dksX10_expected_0 0 rfl rfl)
theorem dX10_expected_1 : decode cX10_expected 1 = .ok (.iload_n 1, 1) := dk_27 (dk_at dksX10_expected_0 1 rfl rfl)
theorem dX10_expected_2 : decode cX10_expected 2 = .ok (.invokevirtual 136, 3) := dk_182 0 136 (dk_at dksX10_expected_0 2 rfl rfl)
theorem dX10_expected_5 : decode cX10_expected 5 = .ok (.ifCond .eq 25, 3) := dk_153 0 25 (dk_at dksX10_expected_0 5 rfl rfl)
theorem dX10_expected_8 : decode cX10_expected 8 = .ok (.iload_n 2, 1) := dk_28 (dk_at dksX10_expected_0 8 rfl rfl)
theorem dX10_expected_9 : decode cX10_expected 9 = .ok (.i2l, 1) := dk_133 (dk_at dksX10_expected_0 9 rfl rfl)
theorem dX10_expected_10 : decode cX10_expected 10 = .ok (.lconst 0, 1) := dk_9 (dk_at dksX10_expected_0 10 rfl rfl)
theorem dX10_expected_11 : decode cX10_expected 11 = .ok (.ldc2_w 208, 3) := dk_20 0 208 (dk_at dksX10_expected_0 11 rfl rfl)
theorem dX10_expected_14 : decode cX10_expected 14 = .ok (.invokestatic 67, 3) := dk_184 0 67 (dk_at dksX10_expected_0 14 rfl rfl)
theorem dX10_expected_17 : decode cX10_expected 17 = .ok (.ifCond .eq 13, 3) := dk_153 0 13 (dk_at dksX10_expected_0 17 rfl rfl)
theorem dX10_expected_20 : decode cX10_expected 20 = .ok (.iload_n 3, 1) := dk_29 (dk_at dksX10_expected_0 20 rfl rfl)
theorem dX10_expected_21 : decode cX10_expected 21 = .ok (.i2l, 1) := dk_133 (dk_at dksX10_expected_0 21 rfl rfl)
theorem dX10_expected_22 : decode cX10_expected 22 = .ok (.lconst 0, 1) := dk_9 (dk_at dksX10_expected_0 22 rfl rfl)
theorem dX10_expected_23 : decode cX10_expected 23 = .ok (.lconst 1, 1) := dk_10 (dk_at dksX10_expected_0 23 rfl rfl)
theorem dX10_expected_24 : decode cX10_expected 24 = .ok (.invokestatic 67, 3) := dk_184 0 67 (dk_at dksX10_expected_1 0 rfl rfl)
theorem dX10_expected_27 : decode cX10_expected 27 = .ok (.ifCond .ne 7, 3) := dk_154 0 7 (dk_at dksX10_expected_1 3 rfl rfl)
theorem dX10_expected_30 : decode cX10_expected 30 = .ok (.ldc2_w 210, 3) := dk_20 0 210 (dk_at dksX10_expected_1 6 rfl rfl)
theorem dX10_expected_33 : decode cX10_expected 33 = .ok (.lreturn, 1) := dk_173 (dk_at dksX10_expected_1 9 rfl rfl)
theorem dX10_expected_34 : decode cX10_expected 34 = .ok (.aload_n 0, 1) := dk_42 (dk_at dksX10_expected_1 10 rfl rfl)
theorem dX10_expected_35 : decode cX10_expected 35 = .ok (.iload_n 2, 1) := dk_28 (dk_at dksX10_expected_1 11 rfl rfl)
theorem dX10_expected_36 : decode cX10_expected 36 = .ok (.aload_n 0, 1) := dk_42 (dk_at dksX10_expected_1 12 rfl rfl)
theorem dX10_expected_37 : decode cX10_expected 37 = .ok (.getfield 17, 3) := dk_180 0 17 (dk_at dksX10_expected_1 13 rfl rfl)
theorem dX10_expected_40 : decode cX10_expected 40 = .ok (.iload_n 1, 1) := dk_27 (dk_at dksX10_expected_1 16 rfl rfl)
theorem dX10_expected_41 : decode cX10_expected 41 = .ok (.iaload, 1) := dk_46 (dk_at dksX10_expected_1 17 rfl rfl)
theorem dX10_expected_42 : decode cX10_expected 42 = .ok (.invokevirtual 212, 3) := dk_182 0 212 (dk_at dksX10_expected_1 18 rfl rfl)
theorem dX10_expected_45 : decode cX10_expected 45 = .ok (.lconst 1, 1) := dk_10 (dk_at dksX10_expected_1 21 rfl rfl)
theorem dX10_expected_46 : decode cX10_expected 46 = .ok (.lstore 4, 2) := dk_55 4 (dk_at dksX10_expected_1 22 rfl rfl)
theorem dX10_expected_48 : decode cX10_expected 48 = .ok (.iconst 0, 1) := dk_3 (dk_at dksX10_expected_2 0 rfl rfl)
theorem dX10_expected_49 : decode cX10_expected 49 = .ok (.istore 6, 2) := dk_54 6 (dk_at dksX10_expected_2 1 rfl rfl)
theorem dX10_expected_51 : decode cX10_expected 51 = .ok (.iload 6, 2) := dk_21 6 (dk_at dksX10_expected_2 3 rfl rfl)
theorem dX10_expected_53 : decode cX10_expected 53 = .ok (.iload_n 2, 1) := dk_28 (dk_at dksX10_expected_2 5 rfl rfl)
theorem dX10_expected_54 : decode cX10_expected 54 = .ok (.if_icmp .ge 17, 3) := dk_162 0 17 (dk_at dksX10_expected_2 6 rfl rfl)
theorem dX10_expected_57 : decode cX10_expected 57 = .ok (.lload 4, 2) := dk_22 4 (dk_at dksX10_expected_2 9 rfl rfl)
theorem dX10_expected_59 : decode cX10_expected 59 = .ok (.ldc2_w 195, 3) := dk_20 0 195 (dk_at dksX10_expected_2 11 rfl rfl)
theorem dX10_expected_62 : decode cX10_expected 62 = .ok (.lmul, 1) := dk_105 (dk_at dksX10_expected_2 14 rfl rfl)
theorem dX10_expected_63 : decode cX10_expected 63 = .ok (.lstore 4, 2) := dk_55 4 (dk_at dksX10_expected_2 15 rfl rfl)
theorem dX10_expected_65 : decode cX10_expected 65 = .ok (.iinc 6 1, 3) := dk_132 6 1 (dk_at dksX10_expected_2 17 rfl rfl)
theorem dX10_expected_68 : decode cX10_expected 68 = .ok (.goto (-17), 3) := dk_167 255 239 (dk_at dksX10_expected_2 20 rfl rfl)
theorem dX10_expected_71 : decode cX10_expected 71 = .ok (.aload_n 0, 1) := dk_42 (dk_at dksX10_expected_2 23 rfl rfl)
theorem dX10_expected_72 : decode cX10_expected 72 = .ok (.getfield 56, 3) := dk_180 0 56 (dk_at dksX10_expected_3 0 rfl rfl)
theorem dX10_expected_75 : decode cX10_expected 75 = .ok (.iconst 0, 1) := dk_3 (dk_at dksX10_expected_3 3 rfl rfl)
theorem dX10_expected_76 : decode cX10_expected 76 = .ok (.laload, 1) := dk_47 (dk_at dksX10_expected_3 4 rfl rfl)
theorem dX10_expected_77 : decode cX10_expected 77 = .ok (.lstore 6, 2) := dk_55 6 (dk_at dksX10_expected_3 5 rfl rfl)
theorem dX10_expected_79 : decode cX10_expected 79 = .ok (.lload 4, 2) := dk_22 4 (dk_at dksX10_expected_3 7 rfl rfl)
theorem dX10_expected_81 : decode cX10_expected 81 = .ok (.lstore 8, 2) := dk_55 8 (dk_at dksX10_expected_3 9 rfl rfl)
theorem dX10_expected_83 : decode cX10_expected 83 = .ok (.lload 8, 2) := dk_22 8 (dk_at dksX10_expected_3 11 rfl rfl)
theorem dX10_expected_85 : decode cX10_expected 85 = .ok (.lconst 0, 1) := dk_9 (dk_at dksX10_expected_3 13 rfl rfl)
theorem dX10_expected_86 : decode cX10_expected 86 = .ok (.lcmp, 1) := dk_148 (dk_at dksX10_expected_3 14 rfl rfl)
theorem dX10_expected_87 : decode cX10_expected 87 = .ok (.ifCond .eq 21, 3) := dk_153 0 21 (dk_at dksX10_expected_3 15 rfl rfl)
theorem dX10_expected_90 : decode cX10_expected 90 = .ok (.lload 6, 2) := dk_22 6 (dk_at dksX10_expected_3 18 rfl rfl)
theorem dX10_expected_92 : decode cX10_expected 92 = .ok (.lload 8, 2) := dk_22 8 (dk_at dksX10_expected_3 20 rfl rfl)
theorem dX10_expected_94 : decode cX10_expected 94 = .ok (.lrem, 1) := dk_113 (dk_at dksX10_expected_3 22 rfl rfl)
theorem dX10_expected_95 : decode cX10_expected 95 = .ok (.lstore 10, 2) := dk_55 10 (dk_at dksX10_expected_4 0 rfl rfl)
theorem dX10_expected_97 : decode cX10_expected 97 = .ok (.lload 8, 2) := dk_22 8 (dk_at dksX10_expected_4 2 rfl rfl)
theorem dX10_expected_99 : decode cX10_expected 99 = .ok (.lstore 6, 2) := dk_55 6 (dk_at dksX10_expected_4 4 rfl rfl)
theorem dX10_expected_101 : decode cX10_expected 101 = .ok (.lload 10, 2) := dk_22 10 (dk_at dksX10_expected_4 6 rfl rfl)
theorem dX10_expected_103 : decode cX10_expected 103 = .ok (.lstore 8, 2) := dk_55 8 (dk_at dksX10_expected_4 8 rfl rfl)
theorem dX10_expected_105 : decode cX10_expected 105 = .ok (.goto (-22), 3) := dk_167 255 234 (dk_at dksX10_expected_4 10 rfl rfl)
theorem dX10_expected_108 : decode cX10_expected 108 = .ok (.iload_n 3, 1) := dk_29 (dk_at dksX10_expected_4 13 rfl rfl)
theorem dX10_expected_109 : decode cX10_expected 109 = .ok (.ifCond .ne 15, 3) := dk_154 0 15 (dk_at dksX10_expected_4 14 rfl rfl)
theorem dX10_expected_112 : decode cX10_expected 112 = .ok (.aload_n 0, 1) := dk_42 (dk_at dksX10_expected_4 17 rfl rfl)
theorem dX10_expected_113 : decode cX10_expected 113 = .ok (.getfield 56, 3) := dk_180 0 56 (dk_at dksX10_expected_4 18 rfl rfl)
theorem dX10_expected_116 : decode cX10_expected 116 = .ok (.iconst 0, 1) := dk_3 (dk_at dksX10_expected_4 21 rfl rfl)
theorem dX10_expected_117 : decode cX10_expected 117 = .ok (.laload, 1) := dk_47 (dk_at dksX10_expected_4 22 rfl rfl)
theorem dX10_expected_118 : decode cX10_expected 118 = .ok (.lload 6, 2) := dk_22 6 (dk_at dksX10_expected_5 0 rfl rfl)
theorem dX10_expected_120 : decode cX10_expected 120 = .ok (.ldiv, 1) := dk_109 (dk_at dksX10_expected_5 2 rfl rfl)
theorem dX10_expected_121 : decode cX10_expected 121 = .ok (.goto 8, 3) := dk_167 0 8 (dk_at dksX10_expected_5 3 rfl rfl)
theorem dX10_expected_124 : decode cX10_expected 124 = .ok (.lload 4, 2) := dk_22 4 (dk_at dksX10_expected_5 6 rfl rfl)
theorem dX10_expected_126 : decode cX10_expected 126 = .ok (.lload 6, 2) := dk_22 6 (dk_at dksX10_expected_5 8 rfl rfl)
theorem dX10_expected_128 : decode cX10_expected 128 = .ok (.ldiv, 1) := dk_109 (dk_at dksX10_expected_5 10 rfl rfl)
theorem dX10_expected_129 : decode cX10_expected 129 = .ok (.lreturn, 1) := dk_173 (dk_at dksX10_expected_5 11 rfl rfl)
abbrev cX10_findBrings : ByteArray := prog_14_method_41_code
def yX10_findBrings : MethodName := ⟨RX10, "findBrings", "(II)V"⟩
def dkwX10_findBrings_10 : List UInt8 := [177]
abbrev dktX10_findBrings_10 : List UInt8 := dkwX10_findBrings_10 ++ []
def dkwX10_findBrings_9 : List UInt8 := [132, 7, 1, 167, 255, 114, 132, 6, 1, 167, 255, 98, 33, 20, 0, 195, 105, 66, 132, 5, 1, 167, 255, 47]
abbrev dktX10_findBrings_9 : List UInt8 := dkwX10_findBrings_9 ++ dktX10_findBrings_10
def dkwX10_findBrings_8 : List UInt8 := [97, 55, 10, 132, 12, 1, 167, 255, 167, 42, 180, 0, 56, 5, 21, 6, 104, 21, 7, 96, 22, 10, 80]
abbrev dktX10_findBrings_8 : List UInt8 := dkwX10_findBrings_8 ++ dktX10_findBrings_9
def dkwX10_findBrings_7 : List UInt8 := [42, 180, 0, 32, 21, 12, 46, 133, 22, 14, 22, 8, 148, 158, 0, 8, 22, 14, 167, 0, 5, 22, 8, 105]
abbrev dktX10_findBrings_7 : List UInt8 := dkwX10_findBrings_7 ++ dktX10_findBrings_8
def dkwX10_findBrings_6 : List UInt8 := [33, 105, 42, 180, 0, 60, 42, 21, 7, 21, 12, 182, 0, 205, 47, 97, 167, 0, 4, 9, 55, 14, 22, 10]
abbrev dktX10_findBrings_6 : List UInt8 := dkwX10_findBrings_6 ++ dktX10_findBrings_7
def dkwX10_findBrings_5 : List UInt8 := [28, 162, 0, 7, 4, 167, 0, 4, 3, 54, 13, 21, 13, 153, 0, 30, 42, 180, 0, 35, 21, 12, 46, 133]
abbrev dktX10_findBrings_5 : List UInt8 := dkwX10_findBrings_5 ++ dktX10_findBrings_6
def dkwX10_findBrings_4 : List UInt8 := [182, 0, 199, 100, 133, 22, 8, 105, 55, 10, 3, 54, 12, 21, 12, 6, 162, 0, 89, 21, 6, 21, 7, 96]
abbrev dktX10_findBrings_4 : List UInt8 := dkwX10_findBrings_4 ++ dktX10_findBrings_5
def dkwX10_findBrings_3 : List UInt8 := [3, 54, 7, 21, 7, 5, 162, 0, 142, 42, 180, 0, 60, 5, 21, 7, 104, 47, 55, 8, 16, 10, 42]
abbrev dktX10_findBrings_3 : List UInt8 := dkwX10_findBrings_3 ++ dktX10_findBrings_4
def dkwX10_findBrings_2 : List UInt8 := [42, 180, 0, 56, 21, 6, 47, 80, 132, 6, 1, 167, 255, 232, 3, 54, 6, 21, 6, 16, 6, 162, 0, 157]
abbrev dktX10_findBrings_2 : List UInt8 := dkwX10_findBrings_2 ++ dktX10_findBrings_3
def dkwX10_findBrings_1 : List UInt8 := [54, 5, 21, 5, 27, 163, 0, 209, 3, 54, 6, 21, 6, 16, 12, 162, 0, 23, 42, 180, 0, 60, 21, 6]
abbrev dktX10_findBrings_1 : List UInt8 := dkwX10_findBrings_1 ++ dktX10_findBrings_2
def dkwX10_findBrings_0 : List UInt8 := [3, 62, 29, 16, 12, 162, 0, 16, 42, 180, 0, 56, 29, 9, 80, 132, 3, 1, 167, 255, 240, 10, 66, 4]
abbrev dktX10_findBrings_0 : List UInt8 := dkwX10_findBrings_0 ++ dktX10_findBrings_1
theorem dksX10_findBrings_0 : cX10_findBrings.data.toList.drop 0 = dktX10_findBrings_0 := by decide +kernel
theorem dksX10_findBrings_1 : cX10_findBrings.data.toList.drop 24 = dktX10_findBrings_1 := dk_seg dksX10_findBrings_0 24 rfl rfl
theorem dksX10_findBrings_2 : cX10_findBrings.data.toList.drop 48 = dktX10_findBrings_2 := dk_seg dksX10_findBrings_1 24 rfl rfl
theorem dksX10_findBrings_3 : cX10_findBrings.data.toList.drop 72 = dktX10_findBrings_3 := dk_seg dksX10_findBrings_2 24 rfl rfl
theorem dksX10_findBrings_4 : cX10_findBrings.data.toList.drop 95 = dktX10_findBrings_4 := dk_seg dksX10_findBrings_3 23 rfl rfl
theorem dksX10_findBrings_5 : cX10_findBrings.data.toList.drop 119 = dktX10_findBrings_5 := dk_seg dksX10_findBrings_4 24 rfl rfl
theorem dksX10_findBrings_6 : cX10_findBrings.data.toList.drop 143 = dktX10_findBrings_6 := dk_seg dksX10_findBrings_5 24 rfl rfl
theorem dksX10_findBrings_7 : cX10_findBrings.data.toList.drop 167 = dktX10_findBrings_7 := dk_seg dksX10_findBrings_6 24 rfl rfl
theorem dksX10_findBrings_8 : cX10_findBrings.data.toList.drop 191 = dktX10_findBrings_8 := dk_seg dksX10_findBrings_7 24 rfl rfl
theorem dksX10_findBrings_9 : cX10_findBrings.data.toList.drop 214 = dktX10_findBrings_9 := dk_seg dksX10_findBrings_8 23 rfl rfl
theorem dksX10_findBrings_10 : cX10_findBrings.data.toList.drop 238 = dktX10_findBrings_10 := dk_seg dksX10_findBrings_9 24 rfl rfl
theorem dX10_findBrings_0 : decode cX10_findBrings 0 = .ok (.iconst 0, 1) := dk_3 (dk_at dksX10_findBrings_0 0 rfl rfl)
theorem dX10_findBrings_1 : decode cX10_findBrings 1 = .ok (.istore_n 3, 1) := dk_62 (dk_at dksX10_findBrings_0 1 rfl rfl)
theorem dX10_findBrings_2 : decode cX10_findBrings 2 = .ok (.iload_n 3, 1) := dk_29 (dk_at dksX10_findBrings_0 2 rfl rfl)
theorem dX10_findBrings_3 : decode cX10_findBrings 3 = .ok (.bipush 12, 2) := dk_16 12 (dk_at dksX10_findBrings_0 3 rfl rfl)
theorem dX10_findBrings_5 : decode cX10_findBrings 5 = .ok (.if_icmp .ge 16, 3) := dk_162 0 16 (dk_at dksX10_findBrings_0 5 rfl rfl)
theorem dX10_findBrings_8 : decode cX10_findBrings 8 = .ok (.aload_n 0, 1) := dk_42 (dk_at dksX10_findBrings_0 8 rfl rfl)
theorem dX10_findBrings_9 : decode cX10_findBrings 9 = .ok (.getfield 56, 3) := dk_180 0 56 (dk_at dksX10_findBrings_0 9 rfl rfl)
theorem dX10_findBrings_12 : decode cX10_findBrings 12 = .ok (.iload_n 3, 1) := dk_29 (dk_at dksX10_findBrings_0 12 rfl rfl)
theorem dX10_findBrings_13 : decode cX10_findBrings 13 = .ok (.lconst 0, 1) := dk_9 (dk_at dksX10_findBrings_0 13 rfl rfl)
theorem dX10_findBrings_14 : decode cX10_findBrings 14 = .ok (.lastore, 1) := dk_80 (dk_at dksX10_findBrings_0 14 rfl rfl)
theorem dX10_findBrings_15 : decode cX10_findBrings 15 = .ok (.iinc 3 1, 3) := dk_132 3 1 (dk_at dksX10_findBrings_0 15 rfl rfl)
theorem dX10_findBrings_18 : decode cX10_findBrings 18 = .ok (.goto (-16), 3) := dk_167 255 240 (dk_at dksX10_findBrings_0 18 rfl rfl)
theorem dX10_findBrings_21 : decode cX10_findBrings 21 = .ok (.lconst 1, 1) := dk_10 (dk_at dksX10_findBrings_0 21 rfl rfl)
theorem dX10_findBrings_22 : decode cX10_findBrings 22 = .ok (.lstore_n 3, 1) := dk_66 (dk_at dksX10_findBrings_0 22 rfl rfl)
theorem dX10_findBrings_23 : decode cX10_findBrings 23 = .ok (.iconst 1, 1) := dk_4 (dk_at dksX10_findBrings_0 23 rfl rfl)
theorem dX10_findBrings_24 : decode cX10_findBrings 24 = .ok (.istore 5, 2) := dk_54 5 (dk_at dksX10_findBrings_1 0 rfl rfl)
theorem dX10_findBrings_26 : decode cX10_findBrings 26 = .ok (.iload 5, 2) := dk_21 5 (dk_at dksX10_findBrings_1 2 rfl rfl)
theorem dX10_findBrings_28 : decode cX10_findBrings 28 = .ok (.iload_n 1, 1) := dk_27 (dk_at dksX10_findBrings_1 4 rfl rfl)
theorem dX10_findBrings_29 : decode cX10_findBrings 29 = .ok (.if_icmp .gt 209, 3) := dk_163 0 209 (dk_at dksX10_findBrings_1 5 rfl rfl)
theorem dX10_findBrings_32 : decode cX10_findBrings 32 = .ok (.iconst 0, 1) := dk_3 (dk_at dksX10_findBrings_1 8 rfl rfl)
theorem dX10_findBrings_33 : decode cX10_findBrings 33 = .ok (.istore 6, 2) := dk_54 6 (dk_at dksX10_findBrings_1 9 rfl rfl)
theorem dX10_findBrings_35 : decode cX10_findBrings 35 = .ok (.iload 6, 2) := dk_21 6 (dk_at dksX10_findBrings_1 11 rfl rfl)
theorem dX10_findBrings_37 : decode cX10_findBrings 37 = .ok (.bipush 12, 2) := dk_16 12 (dk_at dksX10_findBrings_1 13 rfl rfl)
theorem dX10_findBrings_39 : decode cX10_findBrings 39 = .ok (.if_icmp .ge 23, 3) := dk_162 0 23 (dk_at dksX10_findBrings_1 15 rfl rfl)
theorem dX10_findBrings_42 : decode cX10_findBrings 42 = .ok (.aload_n 0, 1) := dk_42 (dk_at dksX10_findBrings_1 18 rfl rfl)
theorem dX10_findBrings_43 : decode cX10_findBrings 43 = .ok (.getfield 60, 3) := dk_180 0 60 (dk_at dksX10_findBrings_1 19 rfl rfl)
theorem dX10_findBrings_46 : decode cX10_findBrings 46 = .ok (.iload 6, 2) := dk_21 6 (dk_at dksX10_findBrings_1 22 rfl rfl)
theorem dX10_findBrings_48 : decode cX10_findBrings 48 = .ok (.aload_n 0, 1) := dk_42 (dk_at dksX10_findBrings_2 0 rfl rfl)
theorem dX10_findBrings_49 : decode cX10_findBrings 49 = .ok (.getfield 56, 3) := dk_180 0 56 (dk_at dksX10_findBrings_2 1 rfl rfl)
theorem dX10_findBrings_52 : decode cX10_findBrings 52 = .ok (.iload 6, 2) := dk_21 6 (dk_at dksX10_findBrings_2 4 rfl rfl)
theorem dX10_findBrings_54 : decode cX10_findBrings 54 = .ok (.laload, 1) := dk_47 (dk_at dksX10_findBrings_2 6 rfl rfl)
theorem dX10_findBrings_55 : decode cX10_findBrings 55 = .ok (.lastore, 1) := dk_80 (dk_at dksX10_findBrings_2 7 rfl rfl)
theorem dX10_findBrings_56 : decode cX10_findBrings 56 = .ok (.iinc 6 1, 3) := dk_132 6 1 (dk_at dksX10_findBrings_2 8 rfl rfl)
theorem dX10_findBrings_59 : decode cX10_findBrings 59 = .ok (.goto (-24), 3) := dk_167 255 232 (dk_at dksX10_findBrings_2 11 rfl rfl)
theorem dX10_findBrings_62 : decode cX10_findBrings 62 = .ok (.iconst 0, 1) := dk_3 (dk_at dksX10_findBrings_2 14 rfl rfl)
theorem dX10_findBrings_63 : decode cX10_findBrings 63 = .ok (.istore 6, 2) := dk_54 6 (dk_at dksX10_findBrings_2 15 rfl rfl)
theorem dX10_findBrings_65 : decode cX10_findBrings 65 = .ok (.iload 6, 2) := dk_21 6 (dk_at dksX10_findBrings_2 17 rfl rfl)
theorem dX10_findBrings_67 : decode cX10_findBrings 67 = .ok (.bipush 6, 2) := dk_16 6 (dk_at dksX10_findBrings_2 19 rfl rfl)
theorem dX10_findBrings_69 : decode cX10_findBrings 69 = .ok (.if_icmp .ge 157, 3) := dk_162 0 157 (dk_at dksX10_findBrings_2 21 rfl rfl)
theorem dX10_findBrings_72 : decode cX10_findBrings 72 = .ok (.iconst 0, 1) := dk_3 (dk_at dksX10_findBrings_3 0 rfl rfl)
theorem dX10_findBrings_73 : decode cX10_findBrings 73 = .ok (.istore 7, 2) := dk_54 7 (dk_at dksX10_findBrings_3 1 rfl rfl)
theorem dX10_findBrings_75 : decode cX10_findBrings 75 = .ok (.iload 7, 2) := dk_21 7 (dk_at dksX10_findBrings_3 3 rfl rfl)
theorem dX10_findBrings_77 : decode cX10_findBrings 77 = .ok (.iconst 2, 1) := dk_5 (dk_at dksX10_findBrings_3 5 rfl rfl)
theorem dX10_findBrings_78 : decode cX10_findBrings 78 = .ok (.if_icmp .ge 142, 3) := dk_162 0 142 (dk_at dksX10_findBrings_3 6 rfl rfl)
theorem dX10_findBrings_81 : decode cX10_findBrings 81 = .ok (.aload_n 0, 1) := dk_42 (dk_at dksX10_findBrings_3 9 rfl rfl)
theorem dX10_findBrings_82 : decode cX10_findBrings 82 = .ok (.getfield 60, 3) := dk_180 0 60 (dk_at dksX10_findBrings_3 10 rfl rfl)
theorem dX10_findBrings_85 : decode cX10_findBrings 85 = .ok (.iconst 2, 1) := dk_5 (dk_at dksX10_findBrings_3 13 rfl rfl)
theorem dX10_findBrings_86 : decode cX10_findBrings 86 = .ok (.iload 7, 2) := dk_21 7 (dk_at dksX10_findBrings_3 14 rfl rfl)
theorem dX10_findBrings_88 : decode cX10_findBrings 88 = .ok (.imul, 1) := dk_104 (dk_at dksX10_findBrings_3 16 rfl rfl)
theorem dX10_findBrings_89 : decode cX10_findBrings 89 = .ok (.laload, 1) := dk_47 (dk_at dksX10_findBrings_3 17 rfl rfl)
theorem dX10_findBrings_90 : decode cX10_findBrings 90 = .ok (.lstore 8, 2) := dk_55 8 (dk_at dksX10_findBrings_3 18 rfl rfl)
theorem dX10_findBrings_92 : decode cX10_findBrings 92 = .ok (.bipush 10, 2) := dk_16 10 (dk_at dksX10_findBrings_3 20 rfl rfl)
theorem dX10_findBrings_94 : decode cX10_findBrings 94 = .ok (.aload_n 0, 1) := dk_42 (dk_at dksX10_findBrings_3 22 rfl rfl)
theorem dX10_findBrings_95 : decode cX10_findBrings 95 = .ok (.invokevirtual 199, 3) := dk_182 0 199 (dk_at dksX10_findBrings_4 0 rfl rfl)
theorem dX10_findBrings_98 : decode cX10_findBrings 98 = .ok (.isub, 1) := dk_100 (dk_at dksX10_findBrings_4 3 rfl rfl)
theorem dX10_findBrings_99 : decode cX10_findBrings 99 = .ok (.i2l, 1) := dk_133 (dk_at dksX10_findBrings_4 4 rfl rfl)
theorem dX10_findBrings_100 : decode cX10_findBrings 100 = .ok (.lload 8, 2) := dk_22 8 (dk_at dksX10_findBrings_4 5 rfl rfl)
theorem dX10_findBrings_102 : decode cX10_findBrings 102 = .ok (.lmul, 1) := dk_105 (dk_at dksX10_findBrings_4 7 rfl rfl)
theorem dX10_findBrings_103 : decode cX10_findBrings 103 = .ok (.lstore 10, 2) := dk_55 10 (dk_at dksX10_findBrings_4 8 rfl rfl)
theorem dX10_findBrings_105 : decode cX10_findBrings 105 = .ok (.iconst 0, 1) := dk_3 (dk_at dksX10_findBrings_4 10 rfl rfl)
theorem dX10_findBrings_106 : decode cX10_findBrings 106 = .ok (.istore 12, 2) := dk_54 12 (dk_at dksX10_findBrings_4 11 rfl rfl)
theorem dX10_findBrings_108 : decode cX10_findBrings 108 = .ok (.iload 12, 2) := dk_21 12 (dk_at dksX10_findBrings_4 13 rfl rfl)
theorem dX10_findBrings_110 : decode cX10_findBrings 110 = .ok (.iconst 3, 1) := dk_6 (dk_at dksX10_findBrings_4 15 rfl rfl)
theorem dX10_findBrings_111 : decode cX10_findBrings 111 = .ok (.if_icmp .ge 89, 3) := dk_162 0 89 (dk_at dksX10_findBrings_4 16 rfl rfl)
theorem dX10_findBrings_114 : decode cX10_findBrings 114 = .ok (.iload 6, 2) := dk_21 6 (dk_at dksX10_findBrings_4 19 rfl rfl)
theorem dX10_findBrings_116 : decode cX10_findBrings 116 = .ok (.iload 7, 2) := dk_21 7 (dk_at dksX10_findBrings_4 21 rfl rfl)
theorem dX10_findBrings_118 : decode cX10_findBrings 118 = .ok (.iadd, 1) := dk_96 (dk_at dksX10_findBrings_4 23 rfl rfl)
theorem dX10_findBrings_119 : decode cX10_findBrings 119 = .ok (.iload_n 2, 1) := dk_28 (dk_at dksX10_findBrings_5 0 rfl rfl)
theorem dX10_findBrings_120 : decode cX10_findBrings 120 = .ok (.if_icmp .ge 7, 3) := dk_162 0 7 (dk_at dksX10_findBrings_5 1 rfl rfl)
theorem dX10_findBrings_123 : decode cX10_findBrings 123 = .ok (.iconst 1, 1) := dk_4 (dk_at dksX10_findBrings_5 4 rfl rfl)
theorem dX10_findBrings_124 : decode cX10_findBrings 124 = .ok (.goto 4, 3) := dk_167 0 4 (dk_at dksX10_findBrings_5 5 rfl rfl)
theorem dX10_findBrings_127 : decode cX10_findBrings 127 = .ok (.iconst 0, 1) := dk_3 (dk_at dksX10_findBrings_5 8 rfl rfl)
theorem dX10_findBrings_128 : decode cX10_findBrings 128 = .ok (.istore 13, 2) := dk_54 13 (dk_at dksX10_findBrings_5 9 rfl rfl)
theorem dX10_findBrings_130 : decode cX10_findBrings 130 = .ok (.iload 13, 2) := dk_21 13 (dk_at dksX10_findBrings_5 11 rfl rfl)
theorem dX10_findBrings_132 : decode cX10_findBrings 132 = .ok (.ifCond .eq 30, 3) := dk_153 0 30 (dk_at dksX10_findBrings_5 13 rfl rfl)
theorem dX10_findBrings_135 : decode cX10_findBrings 135 = .ok (.aload_n 0, 1) := dk_42 (dk_at dksX10_findBrings_5 16 rfl rfl)
theorem dX10_findBrings_136 : decode cX10_findBrings 136 = .ok (.getfield 35, 3) := dk_180 0 35 (dk_at dksX10_findBrings_5 17 rfl rfl)
theorem dX10_findBrings_139 : decode cX10_findBrings 139 = .ok (.iload 12, 2) := dk_21 12 (dk_at dksX10_findBrings_5 20 rfl rfl)
theorem dX10_findBrings_141 : decode cX10_findBrings 141 = .ok (.iaload, 1) := dk_46 (dk_at dksX10_findBrings_5 22 rfl rfl)
theorem dX10_findBrings_142 : decode cX10_findBrings 142 = .ok (.i2l, 1) := dk_133 (dk_at dksX10_findBrings_5 23 rfl rfl)
theorem dX10_findBrings_143 : decode cX10_findBrings 143 = .ok (.lload_n 3, 1) := dk_33 (dk_at dksX10_findBrings_6 0 rfl rfl)
theorem dX10_findBrings_144 : decode cX10_findBrings 144 = .ok (.lmul, 1) := dk_105 (dk_at dksX10_findBrings_6 1 rfl rfl)
theorem dX10_findBrings_145 : decode cX10_findBrings 145 = .ok (.aload_n 0, 1) := dk_42 (dk_at dksX10_findBrings_6 2 rfl rfl)
theorem dX10_findBrings_146 : decode cX10_findBrings 146 = .ok (.getfield 60, 3) := dk_180 0 60 (dk_at dksX10_findBrings_6 3 rfl rfl)
theorem dX10_findBrings_149 : decode cX10_findBrings 149 = .ok (.aload_n 0, 1) := dk_42 (dk_at dksX10_findBrings_6 6 rfl rfl)
theorem dX10_findBrings_150 : decode cX10_findBrings 150 = .ok (.iload 7, 2) := dk_21 7 (dk_at dksX10_findBrings_6 7 rfl rfl)
theorem dX10_findBrings_152 : decode cX10_findBrings 152 = .ok (.iload 12, 2) := dk_21 12 (dk_at dksX10_findBrings_6 9 rfl rfl)
theorem dX10_findBrings_154 : decode cX10_findBrings 154 = .ok (.invokevirtual 205, 3) := dk_182 0 205 (dk_at dksX10_findBrings_6 11 rfl rfl)
theorem dX10_findBrings_157 : decode cX10_findBrings 157 = .ok (.laload, 1) := dk_47 (dk_at dksX10_findBrings_6 14 rfl rfl)
theorem dX10_findBrings_158 : decode cX10_findBrings 158 = .ok (.ladd, 1) := dk_97 (dk_at dksX10_findBrings_6 15 rfl rfl)
theorem dX10_findBrings_159 : decode cX10_findBrings 159 = .ok (.goto 4, 3) := dk_167 0 4 (dk_at dksX10_findBrings_6 16 rfl rfl)
theorem dX10_findBrings_162 : decode cX10_findBrings 162 = .ok (.lconst 0, 1) := dk_9 (dk_at dksX10_findBrings_6 19 rfl rfl)
theorem dX10_findBrings_163 : decode cX10_findBrings 163 = .ok (.lstore 14, 2) := dk_55 14 (dk_at dksX10_findBrings_6 20 rfl rfl)
theorem dX10_findBrings_165 : decode cX10_findBrings 165 = .ok (.lload 10, 2) := dk_22 10 (dk_at dksX10_findBrings_6 22 rfl rfl)
theorem dX10_findBrings_167 : decode cX10_findBrings 167 = .ok (.aload_n 0, 1) := dk_42 (dk_at dksX10_findBrings_7 0 rfl rfl)
theorem dX10_findBrings_168 : decode cX10_findBrings 168 = .ok (.getfield 32, 3) := dk_180 0 32 (dk_at dksX10_findBrings_7 1 rfl rfl)
theorem dX10_findBrings_171 : decode cX10_findBrings 171 = .ok (.iload 12, 2) := dk_21 12 (dk_at dksX10_findBrings_7 4 rfl rfl)
theorem dX10_findBrings_173 : decode cX10_findBrings 173 = .ok (.iaload, 1) := dk_46 (dk_at dksX10_findBrings_7 6 rfl rfl)
theorem dX10_findBrings_174 : decode cX10_findBrings 174 = .ok (.i2l, 1) := dk_133 (dk_at dksX10_findBrings_7 7 rfl rfl)
theorem dX10_findBrings_175 : decode cX10_findBrings 175 = .ok (.lload 14, 2) := dk_22 14 (dk_at dksX10_findBrings_7 8 rfl rfl)
theorem dX10_findBrings_177 : decode cX10_findBrings 177 = .ok (.lload 8, 2) := dk_22 8 (dk_at dksX10_findBrings_7 10 rfl rfl)
theorem dX10_findBrings_179 : decode cX10_findBrings 179 = .ok (.lcmp, 1) := dk_148 (dk_at dksX10_findBrings_7 12 rfl rfl)
theorem dX10_findBrings_180 : decode cX10_findBrings 180 = .ok (.ifCond .le 8, 3) := dk_158 0 8 (dk_at dksX10_findBrings_7 13 rfl rfl)
theorem dX10_findBrings_183 : decode cX10_findBrings 183 = .ok (.lload 14, 2) := dk_22 14 (dk_at dksX10_findBrings_7 16 rfl rfl)
theorem dX10_findBrings_185 : decode cX10_findBrings 185 = .ok (.goto 5, 3) := dk_167 0 5 (dk_at dksX10_findBrings_7 18 rfl rfl)
theorem dX10_findBrings_188 : decode cX10_findBrings 188 = .ok (.lload 8, 2) := dk_22 8 (dk_at dksX10_findBrings_7 21 rfl rfl)
theorem dX10_findBrings_190 : decode cX10_findBrings 190 = .ok (.lmul, 1) := dk_105 (dk_at dksX10_findBrings_7 23 rfl rfl)
theorem dX10_findBrings_191 : decode cX10_findBrings 191 = .ok (.ladd, 1) := dk_97 (dk_at dksX10_findBrings_8 0 rfl rfl)
theorem dX10_findBrings_192 : decode cX10_findBrings 192 = .ok (.lstore 10, 2) := dk_55 10 (dk_at dksX10_findBrings_8 1 rfl rfl)
theorem dX10_findBrings_194 : decode cX10_findBrings 194 = .ok (.iinc 12 1, 3) := dk_132 12 1 (dk_at dksX10_findBrings_8 3 rfl rfl)
theorem dX10_findBrings_197 : decode cX10_findBrings 197 = .ok (.goto (-89), 3) := dk_167 255 167 (dk_at dksX10_findBrings_8 6 rfl rfl)
theorem dX10_findBrings_200 : decode cX10_findBrings 200 = .ok (.aload_n 0, 1) := dk_42 (dk_at dksX10_findBrings_8 9 rfl rfl)
theorem dX10_findBrings_201 : decode cX10_findBrings 201 = .ok (.getfield 56, 3) := dk_180 0 56 (dk_at dksX10_findBrings_8 10 rfl rfl)
theorem dX10_findBrings_204 : decode cX10_findBrings 204 = .ok (.iconst 2, 1) := dk_5 (dk_at dksX10_findBrings_8 13 rfl rfl)
theorem dX10_findBrings_205 : decode cX10_findBrings 205 = .ok (.iload 6, 2) := dk_21 6 (dk_at dksX10_findBrings_8 14 rfl rfl)
theorem dX10_findBrings_207 : decode cX10_findBrings 207 = .ok (.imul, 1) := dk_104 (dk_at dksX10_findBrings_8 16 rfl rfl)
theorem dX10_findBrings_208 : decode cX10_findBrings 208 = .ok (.iload 7, 2) := dk_21 7 (dk_at dksX10_findBrings_8 17 rfl rfl)
theorem dX10_findBrings_210 : decode cX10_findBrings 210 = .ok (.iadd, 1) := dk_96 (dk_at dksX10_findBrings_8 19 rfl rfl)
theorem dX10_findBrings_211 : decode cX10_findBrings 211 = .ok (.lload 10, 2) := dk_22 10 (dk_at dksX10_findBrings_8 20 rfl rfl)
theorem dX10_findBrings_213 : decode cX10_findBrings 213 = .ok (.lastore, 1) := dk_80 (dk_at dksX10_findBrings_8 22 rfl rfl)
theorem dX10_findBrings_214 : decode cX10_findBrings 214 = .ok (.iinc 7 1, 3) := dk_132 7 1 (dk_at dksX10_findBrings_9 0 rfl rfl)
theorem dX10_findBrings_217 : decode cX10_findBrings 217 = .ok (.goto (-142), 3) := dk_167 255 114 (dk_at dksX10_findBrings_9 3 rfl rfl)
theorem dX10_findBrings_220 : decode cX10_findBrings 220 = .ok (.iinc 6 1, 3) := dk_132 6 1 (dk_at dksX10_findBrings_9 6 rfl rfl)
theorem dX10_findBrings_223 : decode cX10_findBrings 223 = .ok (.goto (-158), 3) := dk_167 255 98 (dk_at dksX10_findBrings_9 9 rfl rfl)
theorem dX10_findBrings_226 : decode cX10_findBrings 226 = .ok (.lload_n 3, 1) := dk_33 (dk_at dksX10_findBrings_9 12 rfl rfl)
theorem dX10_findBrings_227 : decode cX10_findBrings 227 = .ok (.ldc2_w 195, 3) := dk_20 0 195 (dk_at dksX10_findBrings_9 13 rfl rfl)
theorem dX10_findBrings_230 : decode cX10_findBrings 230 = .ok (.lmul, 1) := dk_105 (dk_at dksX10_findBrings_9 16 rfl rfl)
theorem dX10_findBrings_231 : decode cX10_findBrings 231 = .ok (.lstore_n 3, 1) := dk_66 (dk_at dksX10_findBrings_9 17 rfl rfl)
theorem dX10_findBrings_232 : decode cX10_findBrings 232 = .ok (.iinc 5 1, 3) := dk_132 5 1 (dk_at dksX10_findBrings_9 18 rfl rfl)
theorem dX10_findBrings_235 : decode cX10_findBrings 235 = .ok (.goto (-209), 3) := dk_167 255 47 (dk_at dksX10_findBrings_9 21 rfl rfl)
theorem dX10_findBrings_238 : decode cX10_findBrings 238 = .ok (.return_, 1) := dk_177 (dk_at dksX10_findBrings_10 0 rfl rfl)
abbrev cX10_behind : ByteArray := prog_14_method_42_code
def yX10_behind : MethodName := ⟨RX10, "behind", "(II)I"⟩
def dkwX10_behind_1 : List UInt8 := [46, 6, 160, 0, 7, 4, 167, 0, 4, 3, 96, 172]
abbrev dktX10_behind_1 : List UInt8 := dkwX10_behind_1 ++ []
def dkwX10_behind_0 : List UInt8 := [5, 27, 42, 180, 0, 38, 28, 46, 5, 160, 0, 7, 4, 167, 0, 4, 3, 96, 104, 42, 180, 0, 38, 28]
abbrev dktX10_behind_0 : List UInt8 := dkwX10_behind_0 ++ dktX10_behind_1
theorem dksX10_behind_0 : cX10_behind.data.toList.drop 0 = dktX10_behind_0 := by decide +kernel
theorem dksX10_behind_1 : cX10_behind.data.toList.drop 24 = dktX10_behind_1 := dk_seg dksX10_behind_0 24 rfl rfl
theorem dX10_behind_0 : decode cX10_behind 0 = .ok (.iconst 2, 1) := dk_5 (dk_at dksX10_behind_0 0 rfl rfl)
theorem dX10_behind_1 : decode cX10_behind 1 = .ok (.iload_n 1, 1) := dk_27 (dk_at dksX10_behind_0 1 rfl rfl)
theorem dX10_behind_2 : decode cX10_behind 2 = .ok (.aload_n 0, 1) := dk_42 (dk_at dksX10_behind_0 2 rfl rfl)
theorem dX10_behind_3 : decode cX10_behind 3 = .ok (.getfield 38, 3) := dk_180 0 38 (dk_at dksX10_behind_0 3 rfl rfl)
theorem dX10_behind_6 : decode cX10_behind 6 = .ok (.iload_n 2, 1) := dk_28 (dk_at dksX10_behind_0 6 rfl rfl)
theorem dX10_behind_7 : decode cX10_behind 7 = .ok (.iaload, 1) := dk_46 (dk_at dksX10_behind_0 7 rfl rfl)
theorem dX10_behind_8 : decode cX10_behind 8 = .ok (.iconst 2, 1) := dk_5 (dk_at dksX10_behind_0 8 rfl rfl)
theorem dX10_behind_9 : decode cX10_behind 9 = .ok (.if_icmp .ne 7, 3) := dk_160 0 7 (dk_at dksX10_behind_0 9 rfl rfl)
theorem dX10_behind_12 : decode cX10_behind 12 = .ok (.iconst 1, 1) := dk_4 (dk_at dksX10_behind_0 12 rfl rfl)
theorem dX10_behind_13 : decode cX10_behind 13 = .ok (.goto 4, 3) := dk_167 0 4 (dk_at dksX10_behind_0 13 rfl rfl)
theorem dX10_behind_16 : decode cX10_behind 16 = .ok (.iconst 0, 1) := dk_3 (dk_at dksX10_behind_0 16 rfl rfl)
theorem dX10_behind_17 : decode cX10_behind 17 = .ok (.iadd, 1) := dk_96 (dk_at dksX10_behind_0 17 rfl rfl)
theorem dX10_behind_18 : decode cX10_behind 18 = .ok (.imul, 1) := dk_104 (dk_at dksX10_behind_0 18 rfl rfl)
theorem dX10_behind_19 : decode cX10_behind 19 = .ok (.aload_n 0, 1) := dk_42 (dk_at dksX10_behind_0 19 rfl rfl)
theorem dX10_behind_20 : decode cX10_behind 20 = .ok (.getfield 38, 3) := dk_180 0 38 (dk_at dksX10_behind_0 20 rfl rfl)
theorem dX10_behind_23 : decode cX10_behind 23 = .ok (.iload_n 2, 1) := dk_28 (dk_at dksX10_behind_0 23 rfl rfl)
theorem dX10_behind_24 : decode cX10_behind 24 = .ok (.iaload, 1) := dk_46 (dk_at dksX10_behind_1 0 rfl rfl)
theorem dX10_behind_25 : decode cX10_behind 25 = .ok (.iconst 3, 1) := dk_6 (dk_at dksX10_behind_1 1 rfl rfl)
theorem dX10_behind_26 : decode cX10_behind 26 = .ok (.if_icmp .ne 7, 3) := dk_160 0 7 (dk_at dksX10_behind_1 2 rfl rfl)
theorem dX10_behind_29 : decode cX10_behind 29 = .ok (.iconst 1, 1) := dk_4 (dk_at dksX10_behind_1 5 rfl rfl)
theorem dX10_behind_30 : decode cX10_behind 30 = .ok (.goto 4, 3) := dk_167 0 4 (dk_at dksX10_behind_1 6 rfl rfl)
theorem dX10_behind_33 : decode cX10_behind 33 = .ok (.iconst 0, 1) := dk_3 (dk_at dksX10_behind_1 9 rfl rfl)
theorem dX10_behind_34 : decode cX10_behind 34 = .ok (.iadd, 1) := dk_96 (dk_at dksX10_behind_1 10 rfl rfl)
theorem dX10_behind_35 : decode cX10_behind 35 = .ok (.ireturn, 1) := dk_172 (dk_at dksX10_behind_1 11 rfl rfl)
abbrev cX10_wise : ByteArray := prog_14_method_44_code
def yX10_wise : MethodName := ⟨RX10, "wise", "(III)I"⟩
def dkwX10_wise_5 : List UInt8 := [167, 0, 4, 3, 172]
abbrev dktX10_wise_5 : List UInt8 := dkwX10_wise_5 ++ []
def dkwX10_wise_4 : List UInt8 := [180, 0, 56, 42, 3, 27, 182, 0, 205, 47, 97, 42, 180, 0, 56, 3, 47, 148, 155, 0, 7, 4]
abbrev dktX10_wise_4 : List UInt8 := dkwX10_wise_4 ++ dktX10_wise_5
def dkwX10_wise_3 : List UInt8 := [20, 0, 195, 105, 55, 4, 132, 6, 1, 167, 255, 239, 42, 180, 0, 35, 27, 46, 133, 22, 4, 105, 42]
abbrev dktX10_wise_3 : List UInt8 := dkwX10_wise_3 ++ dktX10_wise_4
def dkwX10_wise_2 : List UInt8 := [172, 42, 28, 4, 100, 29, 182, 0, 212, 10, 55, 4, 4, 54, 6, 21, 6, 28, 162, 0, 17, 22, 4]
abbrev dktX10_wise_2 : List UInt8 := dkwX10_wise_2 ++ dktX10_wise_3
def dkwX10_wise_1 : List UInt8 := [133, 10, 20, 0, 208, 184, 0, 67, 153, 0, 15, 29, 133, 10, 20, 0, 215, 184, 0, 67, 154, 0, 5, 2]
abbrev dktX10_wise_1 : List UInt8 := dkwX10_wise_1 ++ dktX10_wise_2
def dkwX10_wise_0 : List UInt8 := [27, 133, 9, 20, 0, 193, 184, 0, 67, 153, 0, 38, 42, 180, 0, 202, 27, 184, 0, 176, 153, 0, 27, 28]
abbrev dktX10_wise_0 : List UInt8 := dkwX10_wise_0 ++ dktX10_wise_1
theorem dksX10_wise_0 : cX10_wise.data.toList.drop 0 = dktX10_wise_0 := by decide +kernel
theorem dksX10_wise_1 : cX10_wise.data.toList.drop 24 = dktX10_wise_1 := dk_seg dksX10_wise_0 24 rfl rfl
theorem dksX10_wise_2 : cX10_wise.data.toList.drop 48 = dktX10_wise_2 := dk_seg dksX10_wise_1 24 rfl rfl
theorem dksX10_wise_3 : cX10_wise.data.toList.drop 71 = dktX10_wise_3 := dk_seg dksX10_wise_2 23 rfl rfl
theorem dksX10_wise_4 : cX10_wise.data.toList.drop 94 = dktX10_wise_4 := dk_seg dksX10_wise_3 23 rfl rfl
theorem dksX10_wise_5 : cX10_wise.data.toList.drop 116 = dktX10_wise_5 := dk_seg dksX10_wise_4 22 rfl rfl
theorem dX10_wise_0 : decode cX10_wise 0 = .ok (.iload_n 1, 1) := dk_27 (dk_at dksX10_wise_0 0 rfl rfl)
theorem dX10_wise_1 : decode cX10_wise 1 = .ok (.i2l, 1) := dk_133 (dk_at dksX10_wise_0 1 rfl rfl)
theorem dX10_wise_2 : decode cX10_wise 2 = .ok (.lconst 0, 1) := dk_9 (dk_at dksX10_wise_0 2 rfl rfl)
theorem dX10_wise_3 : decode cX10_wise 3 = .ok (.ldc2_w 193, 3) := dk_20 0 193 (dk_at dksX10_wise_0 3 rfl rfl)
theorem dX10_wise_6 : decode cX10_wise 6 = .ok (.invokestatic 67, 3) := dk_184 0 67 (dk_at dksX10_wise_0 6 rfl rfl)
theorem dX10_wise_9 : decode cX10_wise 9 = .ok (.ifCond .eq 38, 3) := dk_153 0 38 (dk_at dksX10_wise_0 9 rfl rfl)
theorem dX10_wise_12 : decode cX10_wise 12 = .ok (.aload_n 0, 1) := dk_42 (dk_at dksX10_wise_0 12 rfl rfl)
theorem dX10_wise_13 : decode cX10_wise 13 = .ok (.getfield 202, 3) := dk_180 0 202 (dk_at dksX10_wise_0 13 rfl rfl)
theorem dX10_wise_16 : decode cX10_wise 16 = .ok (.iload_n 1, 1) := dk_27 (dk_at dksX10_wise_0 16 rfl rfl)
theorem dX10_wise_17 : decode cX10_wise 17 = .ok (.invokestatic 176, 3) := dk_184 0 176 (dk_at dksX10_wise_0 17 rfl rfl)
theorem dX10_wise_20 : decode cX10_wise 20 = .ok (.ifCond .eq 27, 3) := dk_153 0 27 (dk_at dksX10_wise_0 20 rfl rfl)
theorem dX10_wise_23 : decode cX10_wise 23 = .ok (.iload_n 2, 1) := dk_28 (dk_at dksX10_wise_0 23 rfl rfl)
theorem dX10_wise_24 : decode cX10_wise 24 = .ok (.i2l, 1) := dk_133 (dk_at dksX10_wise_1 0 rfl rfl)
theorem dX10_wise_25 : decode cX10_wise 25 = .ok (.lconst 1, 1) := dk_10 (dk_at dksX10_wise_1 1 rfl rfl)
theorem dX10_wise_26 : decode cX10_wise 26 = .ok (.ldc2_w 208, 3) := dk_20 0 208 (dk_at dksX10_wise_1 2 rfl rfl)
theorem dX10_wise_29 : decode cX10_wise 29 = .ok (.invokestatic 67, 3) := dk_184 0 67 (dk_at dksX10_wise_1 5 rfl rfl)
theorem dX10_wise_32 : decode cX10_wise 32 = .ok (.ifCond .eq 15, 3) := dk_153 0 15 (dk_at dksX10_wise_1 8 rfl rfl)
theorem dX10_wise_35 : decode cX10_wise 35 = .ok (.iload_n 3, 1) := dk_29 (dk_at dksX10_wise_1 11 rfl rfl)
theorem dX10_wise_36 : decode cX10_wise 36 = .ok (.i2l, 1) := dk_133 (dk_at dksX10_wise_1 12 rfl rfl)
theorem dX10_wise_37 : decode cX10_wise 37 = .ok (.lconst 1, 1) := dk_10 (dk_at dksX10_wise_1 13 rfl rfl)
theorem dX10_wise_38 : decode cX10_wise 38 = .ok (.ldc2_w 215, 3) := dk_20 0 215 (dk_at dksX10_wise_1 14 rfl rfl)
theorem dX10_wise_41 : decode cX10_wise 41 = .ok (.invokestatic 67, 3) := dk_184 0 67 (dk_at dksX10_wise_1 17 rfl rfl)
theorem dX10_wise_44 : decode cX10_wise 44 = .ok (.ifCond .ne 5, 3) := dk_154 0 5 (dk_at dksX10_wise_1 20 rfl rfl)
theorem dX10_wise_47 : decode cX10_wise 47 = .ok (.iconst (-1), 1) := dk_2 (dk_at dksX10_wise_1 23 rfl rfl)
theorem dX10_wise_48 : decode cX10_wise 48 = .ok (.ireturn, 1) := dk_172 (dk_at dksX10_wise_2 0 rfl rfl)
theorem dX10_wise_49 : decode cX10_wise 49 = .ok (.aload_n 0, 1) := dk_42 (dk_at dksX10_wise_2 1 rfl rfl)
theorem dX10_wise_50 : decode cX10_wise 50 = .ok (.iload_n 2, 1) := dk_28 (dk_at dksX10_wise_2 2 rfl rfl)
theorem dX10_wise_51 : decode cX10_wise 51 = .ok (.iconst 1, 1) := dk_4 (dk_at dksX10_wise_2 3 rfl rfl)
theorem dX10_wise_52 : decode cX10_wise 52 = .ok (.isub, 1) := dk_100 (dk_at dksX10_wise_2 4 rfl rfl)
theorem dX10_wise_53 : decode cX10_wise 53 = .ok (.iload_n 3, 1) := dk_29 (dk_at dksX10_wise_2 5 rfl rfl)
theorem dX10_wise_54 : decode cX10_wise 54 = .ok (.invokevirtual 212, 3) := dk_182 0 212 (dk_at dksX10_wise_2 6 rfl rfl)
theorem dX10_wise_57 : decode cX10_wise 57 = .ok (.lconst 1, 1) := dk_10 (dk_at dksX10_wise_2 9 rfl rfl)
theorem dX10_wise_58 : decode cX10_wise 58 = .ok (.lstore 4, 2) := dk_55 4 (dk_at dksX10_wise_2 10 rfl rfl)
theorem dX10_wise_60 : decode cX10_wise 60 = .ok (.iconst 1, 1) := dk_4 (dk_at dksX10_wise_2 12 rfl rfl)
theorem dX10_wise_61 : decode cX10_wise 61 = .ok (.istore 6, 2) := dk_54 6 (dk_at dksX10_wise_2 13 rfl rfl)
theorem dX10_wise_63 : decode cX10_wise 63 = .ok (.iload 6, 2) := dk_21 6 (dk_at dksX10_wise_2 15 rfl rfl)
theorem dX10_wise_65 : decode cX10_wise 65 = .ok (.iload_n 2, 1) := dk_28 (dk_at dksX10_wise_2 17 rfl rfl)
theorem dX10_wise_66 : decode cX10_wise 66 = .ok (.if_icmp .ge 17, 3) := dk_162 0 17 (dk_at dksX10_wise_2 18 rfl rfl)
theorem dX10_wise_69 : decode cX10_wise 69 = .ok (.lload 4, 2) := dk_22 4 (dk_at dksX10_wise_2 21 rfl rfl)
theorem dX10_wise_71 : decode cX10_wise 71 = .ok (.ldc2_w 195, 3) := dk_20 0 195 (dk_at dksX10_wise_3 0 rfl rfl)
theorem dX10_wise_74 : decode cX10_wise 74 = .ok (.lmul, 1) := dk_105 (dk_at dksX10_wise_3 3 rfl rfl)
theorem dX10_wise_75 : decode cX10_wise 75 = .ok (.lstore 4, 2) := dk_55 4 (dk_at dksX10_wise_3 4 rfl rfl)
theorem dX10_wise_77 : decode cX10_wise 77 = .ok (.iinc 6 1, 3) := dk_132 6 1 (dk_at dksX10_wise_3 6 rfl rfl)
theorem dX10_wise_80 : decode cX10_wise 80 = .ok (.goto (-17), 3) := dk_167 255 239 (dk_at dksX10_wise_3 9 rfl rfl)
theorem dX10_wise_83 : decode cX10_wise 83 = .ok (.aload_n 0, 1) := dk_42 (dk_at dksX10_wise_3 12 rfl rfl)
theorem dX10_wise_84 : decode cX10_wise 84 = .ok (.getfield 35, 3) := dk_180 0 35 (dk_at dksX10_wise_3 13 rfl rfl)
theorem dX10_wise_87 : decode cX10_wise 87 = .ok (.iload_n 1, 1) := dk_27 (dk_at dksX10_wise_3 16 rfl rfl)
theorem dX10_wise_88 : decode cX10_wise 88 = .ok (.iaload, 1) := dk_46 (dk_at dksX10_wise_3 17 rfl rfl)
theorem dX10_wise_89 : decode cX10_wise 89 = .ok (.i2l, 1) := dk_133 (dk_at dksX10_wise_3 18 rfl rfl)
theorem dX10_wise_90 : decode cX10_wise 90 = .ok (.lload 4, 2) := dk_22 4 (dk_at dksX10_wise_3 19 rfl rfl)
theorem dX10_wise_92 : decode cX10_wise 92 = .ok (.lmul, 1) := dk_105 (dk_at dksX10_wise_3 21 rfl rfl)
theorem dX10_wise_93 : decode cX10_wise 93 = .ok (.aload_n 0, 1) := dk_42 (dk_at dksX10_wise_3 22 rfl rfl)
theorem dX10_wise_94 : decode cX10_wise 94 = .ok (.getfield 56, 3) := dk_180 0 56 (dk_at dksX10_wise_4 0 rfl rfl)
theorem dX10_wise_97 : decode cX10_wise 97 = .ok (.aload_n 0, 1) := dk_42 (dk_at dksX10_wise_4 3 rfl rfl)
theorem dX10_wise_98 : decode cX10_wise 98 = .ok (.iconst 0, 1) := dk_3 (dk_at dksX10_wise_4 4 rfl rfl)
theorem dX10_wise_99 : decode cX10_wise 99 = .ok (.iload_n 1, 1) := dk_27 (dk_at dksX10_wise_4 5 rfl rfl)
theorem dX10_wise_100 : decode cX10_wise 100 = .ok (.invokevirtual 205, 3) := dk_182 0 205 (dk_at dksX10_wise_4 6 rfl rfl)
theorem dX10_wise_103 : decode cX10_wise 103 = .ok (.laload, 1) := dk_47 (dk_at dksX10_wise_4 9 rfl rfl)
theorem dX10_wise_104 : decode cX10_wise 104 = .ok (.ladd, 1) := dk_97 (dk_at dksX10_wise_4 10 rfl rfl)
theorem dX10_wise_105 : decode cX10_wise 105 = .ok (.aload_n 0, 1) := dk_42 (dk_at dksX10_wise_4 11 rfl rfl)
theorem dX10_wise_106 : decode cX10_wise 106 = .ok (.getfield 56, 3) := dk_180 0 56 (dk_at dksX10_wise_4 12 rfl rfl)
theorem dX10_wise_109 : decode cX10_wise 109 = .ok (.iconst 0, 1) := dk_3 (dk_at dksX10_wise_4 15 rfl rfl)
theorem dX10_wise_110 : decode cX10_wise 110 = .ok (.laload, 1) := dk_47 (dk_at dksX10_wise_4 16 rfl rfl)
theorem dX10_wise_111 : decode cX10_wise 111 = .ok (.lcmp, 1) := dk_148 (dk_at dksX10_wise_4 17 rfl rfl)
theorem dX10_wise_112 : decode cX10_wise 112 = .ok (.ifCond .lt 7, 3) := dk_155 0 7 (dk_at dksX10_wise_4 18 rfl rfl)
theorem dX10_wise_115 : decode cX10_wise 115 = .ok (.iconst 1, 1) := dk_4 (dk_at dksX10_wise_4 21 rfl rfl)
theorem dX10_wise_116 : decode cX10_wise 116 = .ok (.goto 4, 3) := dk_167 0 4 (dk_at dksX10_wise_5 0 rfl rfl)
theorem dX10_wise_119 : decode cX10_wise 119 = .ok (.iconst 0, 1) := dk_3 (dk_at dksX10_wise_5 3 rfl rfl)
theorem dX10_wise_120 : decode cX10_wise 120 = .ok (.ireturn, 1) := dk_172 (dk_at dksX10_wise_5 4 rfl rfl)
abbrev cX10_ring : ByteArray := prog_14_method_47_code
def yX10_ring : MethodName := ⟨RX10, "ring", "()I"⟩
def dkwX10_ring_0 : List UInt8 := [42, 42, 182, 0, 217, 182, 0, 220, 154, 0, 7, 3, 167, 0, 4, 4, 172]
abbrev dktX10_ring_0 : List UInt8 := dkwX10_ring_0 ++ []
theorem dksX10_ring_0 : cX10_ring.data.toList.drop 0 = dktX10_ring_0 := by decide +kernel
theorem dX10_ring_0 : decode cX10_ring 0 = .ok (.aload_n 0, 1) := dk_42 (dk_at dksX10_ring_0 0 rfl rfl)
theorem dX10_ring_1 : decode cX10_ring 1 = .ok (.aload_n 0, 1) := dk_42 (dk_at dksX10_ring_0 1 rfl rfl)
theorem dX10_ring_2 : decode cX10_ring 2 = .ok (.invokevirtual 217, 3) := dk_182 0 217 (dk_at dksX10_ring_0 2 rfl rfl)
theorem dX10_ring_5 : decode cX10_ring 5 = .ok (.invokevirtual 220, 3) := dk_182 0 220 (dk_at dksX10_ring_0 5 rfl rfl)
theorem dX10_ring_8 : decode cX10_ring 8 = .ok (.ifCond .ne 7, 3) := dk_154 0 7 (dk_at dksX10_ring_0 8 rfl rfl)
theorem dX10_ring_11 : decode cX10_ring 11 = .ok (.iconst 0, 1) := dk_3 (dk_at dksX10_ring_0 11 rfl rfl)
theorem dX10_ring_12 : decode cX10_ring 12 = .ok (.goto 4, 3) := dk_167 0 4 (dk_at dksX10_ring_0 12 rfl rfl)
theorem dX10_ring_15 : decode cX10_ring 15 = .ok (.iconst 1, 1) := dk_4 (dk_at dksX10_ring_0 15 rfl rfl)
theorem dX10_ring_16 : decode cX10_ring 16 = .ok (.ireturn, 1) := dk_172 (dk_at dksX10_ring_0 16 rfl rfl)
abbrev cX10_allAskings : ByteArray := prog_14_method_46_code
def yX10_allAskings : MethodName := ⟨RX10, "allAskings", "()I"⟩
def dkwX10_allAskings_0 : List UInt8 := [4, 42, 180, 0, 71, 120, 4, 100, 172]
abbrev dktX10_allAskings_0 : List UInt8 := dkwX10_allAskings_0 ++ []
theorem dksX10_allAskings_0 : cX10_allAskings.data.toList.drop 0 = dktX10_allAskings_0 := by decide +kernel
theorem dX10_allAskings_0 : decode cX10_allAskings 0 = .ok (.iconst 1, 1) := dk_4 (dk_at dksX10_allAskings_0 0 rfl rfl)
theorem dX10_allAskings_1 : decode cX10_allAskings 1 = .ok (.aload_n 0, 1) := dk_42 (dk_at dksX10_allAskings_0 1 rfl rfl)
theorem dX10_allAskings_2 : decode cX10_allAskings 2 = .ok (.getfield 71, 3) := dk_180 0 71 (dk_at dksX10_allAskings_0 2 rfl rfl)
theorem dX10_allAskings_5 : decode cX10_allAskings 5 = .ok (.ishl, 1) := dk_120 (dk_at dksX10_allAskings_0 5 rfl rfl)
theorem dX10_allAskings_6 : decode cX10_allAskings 6 = .ok (.iconst 1, 1) := dk_4 (dk_at dksX10_allAskings_0 6 rfl rfl)
theorem dX10_allAskings_7 : decode cX10_allAskings 7 = .ok (.isub, 1) := dk_100 (dk_at dksX10_allAskings_0 7 rfl rfl)
theorem dX10_allAskings_8 : decode cX10_allAskings 8 = .ok (.ireturn, 1) := dk_172 (dk_at dksX10_allAskings_0 8 rfl rfl)
abbrev cX10_leftOf : ByteArray := prog_14_method_45_code
def yX10_leftOf : MethodName := ⟨RX10, "leftOf", "(I)I"⟩
def dkwX10_leftOf_4 : List UInt8 := [62, 21, 4, 61, 167, 255, 162, 28, 172]
abbrev dktX10_leftOf_4 : List UInt8 := dkwX10_leftOf_4 ++ []
def dkwX10_leftOf_3 : List UInt8 := [167, 0, 4, 3, 128, 54, 4, 132, 5, 1, 167, 255, 190, 21, 4, 28, 159, 0, 7, 4, 167, 0, 4, 3]
abbrev dktX10_leftOf_3 : List UInt8 := dkwX10_leftOf_3 ++ dktX10_leftOf_4
def dkwX10_leftOf_2 : List UInt8 := [21, 5, 104, 4, 96, 46, 184, 0, 176, 153, 0, 17, 4, 42, 180, 0, 29, 5, 21, 5, 104, 46, 120]
abbrev dktX10_leftOf_2 : List UInt8 := dkwX10_leftOf_2 ++ dktX10_leftOf_3
def dkwX10_leftOf_1 : List UInt8 := [21, 4, 28, 42, 180, 0, 29, 5, 21, 5, 104, 46, 184, 0, 176, 153, 0, 35, 28, 42, 180, 0, 29, 5]
abbrev dktX10_leftOf_1 : List UInt8 := dkwX10_leftOf_1 ++ dktX10_leftOf_2
def dkwX10_leftOf_0 : List UInt8 := [27, 61, 4, 62, 29, 153, 0, 96, 3, 54, 4, 3, 54, 5, 21, 5, 42, 180, 0, 133, 162, 0, 63]
abbrev dktX10_leftOf_0 : List UInt8 := dkwX10_leftOf_0 ++ dktX10_leftOf_1
theorem dksX10_leftOf_0 : cX10_leftOf.data.toList.drop 0 = dktX10_leftOf_0 := by decide +kernel
theorem dksX10_leftOf_1 : cX10_leftOf.data.toList.drop 23 = dktX10_leftOf_1 := dk_seg dksX10_leftOf_0 23 rfl rfl
theorem dksX10_leftOf_2 : cX10_leftOf.data.toList.drop 47 = dktX10_leftOf_2 := dk_seg dksX10_leftOf_1 24 rfl rfl
theorem dksX10_leftOf_3 : cX10_leftOf.data.toList.drop 70 = dktX10_leftOf_3 := dk_seg dksX10_leftOf_2 23 rfl rfl
theorem dksX10_leftOf_4 : cX10_leftOf.data.toList.drop 94 = dktX10_leftOf_4 := dk_seg dksX10_leftOf_3 24 rfl rfl
theorem dX10_leftOf_0 : decode cX10_leftOf 0 = .ok (.iload_n 1, 1) := dk_27 (dk_at dksX10_leftOf_0 0 rfl rfl)
theorem dX10_leftOf_1 : decode cX10_leftOf 1 = .ok (.istore_n 2, 1) := dk_61 (dk_at dksX10_leftOf_0 1 rfl rfl)
theorem dX10_leftOf_2 : decode cX10_leftOf 2 = .ok (.iconst 1, 1) := dk_4 (dk_at dksX10_leftOf_0 2 rfl rfl)
theorem dX10_leftOf_3 : decode cX10_leftOf 3 = .ok (.istore_n 3, 1) := dk_62 (dk_at dksX10_leftOf_0 3 rfl rfl)
theorem dX10_leftOf_4 : decode cX10_leftOf 4 = .ok (.iload_n 3, 1) := dk_29 (dk_at dksX10_leftOf_0 4 rfl rfl)
theorem dX10_leftOf_5 : decode cX10_leftOf 5 = .ok (.ifCond .eq 96, 3) := dk_153 0 96 (dk_at dksX10_leftOf_0 5 rfl rfl)
theorem dX10_leftOf_8 : decode cX10_leftOf 8 = .ok (.iconst 0, 1) := dk_3 (dk_at dksX10_leftOf_0 8 rfl rfl)
theorem dX10_leftOf_9 : decode cX10_leftOf 9 = .ok (.istore 4, 2) := dk_54 4 (dk_at dksX10_leftOf_0 9 rfl rfl)
theorem dX10_leftOf_11 : decode cX10_leftOf 11 = .ok (.iconst 0, 1) := dk_3 (dk_at dksX10_leftOf_0 11 rfl rfl)
theorem dX10_leftOf_12 : decode cX10_leftOf 12 = .ok (.istore 5, 2) := dk_54 5 (dk_at dksX10_leftOf_0 12 rfl rfl)
theorem dX10_leftOf_14 : decode cX10_leftOf 14 = .ok (.iload 5, 2) := dk_21 5 (dk_at dksX10_leftOf_0 14 rfl rfl)
theorem dX10_leftOf_16 : decode cX10_leftOf 16 = .ok (.aload_n 0, 1) := dk_42 (dk_at dksX10_leftOf_0 16 rfl rfl)
theorem dX10_leftOf_17 : decode cX10_leftOf 17 = .ok (.getfield 133, 3) := dk_180 0 133 (dk_at dksX10_leftOf_0 17 rfl rfl)
theorem dX10_leftOf_20 : decode cX10_leftOf 20 = .ok (.if_icmp .ge 63, 3) := dk_162 0 63 (dk_at dksX10_leftOf_0 20 rfl rfl)
theorem dX10_leftOf_23 : decode cX10_leftOf 23 = .ok (.iload 4, 2) := dk_21 4 (dk_at dksX10_leftOf_1 0 rfl rfl)
theorem dX10_leftOf_25 : decode cX10_leftOf 25 = .ok (.iload_n 2, 1) := dk_28 (dk_at dksX10_leftOf_1 2 rfl rfl)
theorem dX10_leftOf_26 : decode cX10_leftOf 26 = .ok (.aload_n 0, 1) := dk_42 (dk_at dksX10_leftOf_1 3 rfl rfl)
theorem dX10_leftOf_27 : decode cX10_leftOf 27 = .ok (.getfield 29, 3) := dk_180 0 29 (dk_at dksX10_leftOf_1 4 rfl rfl)
theorem dX10_leftOf_30 : decode cX10_leftOf 30 = .ok (.iconst 2, 1) := dk_5 (dk_at dksX10_leftOf_1 7 rfl rfl)
theorem dX10_leftOf_31 : decode cX10_leftOf 31 = .ok (.iload 5, 2) := dk_21 5 (dk_at dksX10_leftOf_1 8 rfl rfl)
theorem dX10_leftOf_33 : decode cX10_leftOf 33 = .ok (.imul, 1) := dk_104 (dk_at dksX10_leftOf_1 10 rfl rfl)
theorem dX10_leftOf_34 : decode cX10_leftOf 34 = .ok (.iaload, 1) := dk_46 (dk_at dksX10_leftOf_1 11 rfl rfl)
theorem dX10_leftOf_35 : decode cX10_leftOf 35 = .ok (.invokestatic 176, 3) := dk_184 0 176 (dk_at dksX10_leftOf_1 12 rfl rfl)
theorem dX10_leftOf_38 : decode cX10_leftOf 38 = .ok (.ifCond .eq 35, 3) := dk_153 0 35 (dk_at dksX10_leftOf_1 15 rfl rfl)
theorem dX10_leftOf_41 : decode cX10_leftOf 41 = .ok (.iload_n 2, 1) := dk_28 (dk_at dksX10_leftOf_1 18 rfl rfl)
theorem dX10_leftOf_42 : decode cX10_leftOf 42 = .ok (.aload_n 0, 1) := dk_42 (dk_at dksX10_leftOf_1 19 rfl rfl)
theorem dX10_leftOf_43 : decode cX10_leftOf 43 = .ok (.getfield 29, 3) := dk_180 0 29 (dk_at dksX10_leftOf_1 20 rfl rfl)
theorem dX10_leftOf_46 : decode cX10_leftOf 46 = .ok (.iconst 2, 1) := dk_5 (dk_at dksX10_leftOf_1 23 rfl rfl)
theorem dX10_leftOf_47 : decode cX10_leftOf 47 = .ok (.iload 5, 2) := dk_21 5 (dk_at dksX10_leftOf_2 0 rfl rfl)
theorem dX10_leftOf_49 : decode cX10_leftOf 49 = .ok (.imul, 1) := dk_104 (dk_at dksX10_leftOf_2 2 rfl rfl)
theorem dX10_leftOf_50 : decode cX10_leftOf 50 = .ok (.iconst 1, 1) := dk_4 (dk_at dksX10_leftOf_2 3 rfl rfl)
theorem dX10_leftOf_51 : decode cX10_leftOf 51 = .ok (.iadd, 1) := dk_96 (dk_at dksX10_leftOf_2 4 rfl rfl)
theorem dX10_leftOf_52 : decode cX10_leftOf 52 = .ok (.iaload, 1) := dk_46 (dk_at dksX10_leftOf_2 5 rfl rfl)
theorem dX10_leftOf_53 : decode cX10_leftOf 53 = .ok (.invokestatic 176, 3) := dk_184 0 176 (dk_at dksX10_leftOf_2 6 rfl rfl)
theorem dX10_leftOf_56 : decode cX10_leftOf 56 = .ok (.ifCond .eq 17, 3) := dk_153 0 17 (dk_at dksX10_leftOf_2 9 rfl rfl)
theorem dX10_leftOf_59 : decode cX10_leftOf 59 = .ok (.iconst 1, 1) := dk_4 (dk_at dksX10_leftOf_2 12 rfl rfl)
theorem dX10_leftOf_60 : decode cX10_leftOf 60 = .ok (.aload_n 0, 1) := dk_42 (dk_at dksX10_leftOf_2 13 rfl rfl)
theorem dX10_leftOf_61 : decode cX10_leftOf 61 = .ok (.getfield 29, 3) := dk_180 0 29 (dk_at dksX10_leftOf_2 14 rfl rfl)
theorem dX10_leftOf_64 : decode cX10_leftOf 64 = .ok (.iconst 2, 1) := dk_5 (dk_at dksX10_leftOf_2 17 rfl rfl)
theorem dX10_leftOf_65 : decode cX10_leftOf 65 = .ok (.iload 5, 2) := dk_21 5 (dk_at dksX10_leftOf_2 18 rfl rfl)
theorem dX10_leftOf_67 : decode cX10_leftOf 67 = .ok (.imul, 1) := dk_104 (dk_at dksX10_leftOf_2 20 rfl rfl)
theorem dX10_leftOf_68 : decode cX10_leftOf 68 = .ok (.iaload, 1) := dk_46 (dk_at dksX10_leftOf_2 21 rfl rfl)
theorem dX10_leftOf_69 : decode cX10_leftOf 69 = .ok (.ishl, 1) := dk_120 (dk_at dksX10_leftOf_2 22 rfl rfl)
theorem dX10_leftOf_70 : decode cX10_leftOf 70 = .ok (.goto 4, 3) := dk_167 0 4 (dk_at dksX10_leftOf_3 0 rfl rfl)
theorem dX10_leftOf_73 : decode cX10_leftOf 73 = .ok (.iconst 0, 1) := dk_3 (dk_at dksX10_leftOf_3 3 rfl rfl)
theorem dX10_leftOf_74 : decode cX10_leftOf 74 = .ok (.ior, 1) := dk_128 (dk_at dksX10_leftOf_3 4 rfl rfl)
theorem dX10_leftOf_75 : decode cX10_leftOf 75 = .ok (.istore 4, 2) := dk_54 4 (dk_at dksX10_leftOf_3 5 rfl rfl)
theorem dX10_leftOf_77 : decode cX10_leftOf 77 = .ok (.iinc 5 1, 3) := dk_132 5 1 (dk_at dksX10_leftOf_3 7 rfl rfl)
theorem dX10_leftOf_80 : decode cX10_leftOf 80 = .ok (.goto (-66), 3) := dk_167 255 190 (dk_at dksX10_leftOf_3 10 rfl rfl)
theorem dX10_leftOf_83 : decode cX10_leftOf 83 = .ok (.iload 4, 2) := dk_21 4 (dk_at dksX10_leftOf_3 13 rfl rfl)
theorem dX10_leftOf_85 : decode cX10_leftOf 85 = .ok (.iload_n 2, 1) := dk_28 (dk_at dksX10_leftOf_3 15 rfl rfl)
theorem dX10_leftOf_86 : decode cX10_leftOf 86 = .ok (.if_icmp .eq 7, 3) := dk_159 0 7 (dk_at dksX10_leftOf_3 16 rfl rfl)
theorem dX10_leftOf_89 : decode cX10_leftOf 89 = .ok (.iconst 1, 1) := dk_4 (dk_at dksX10_leftOf_3 19 rfl rfl)
theorem dX10_leftOf_90 : decode cX10_leftOf 90 = .ok (.goto 4, 3) := dk_167 0 4 (dk_at dksX10_leftOf_3 20 rfl rfl)
theorem dX10_leftOf_93 : decode cX10_leftOf 93 = .ok (.iconst 0, 1) := dk_3 (dk_at dksX10_leftOf_3 23 rfl rfl)
theorem dX10_leftOf_94 : decode cX10_leftOf 94 = .ok (.istore_n 3, 1) := dk_62 (dk_at dksX10_leftOf_4 0 rfl rfl)
theorem dX10_leftOf_95 : decode cX10_leftOf 95 = .ok (.iload 4, 2) := dk_21 4 (dk_at dksX10_leftOf_4 1 rfl rfl)
theorem dX10_leftOf_97 : decode cX10_leftOf 97 = .ok (.istore_n 2, 1) := dk_61 (dk_at dksX10_leftOf_4 3 rfl rfl)
theorem dX10_leftOf_98 : decode cX10_leftOf 98 = .ok (.goto (-94), 3) := dk_167 255 162 (dk_at dksX10_leftOf_4 4 rfl rfl)
theorem dX10_leftOf_101 : decode cX10_leftOf 101 = .ok (.iload_n 2, 1) := dk_28 (dk_at dksX10_leftOf_4 7 rfl rfl)
theorem dX10_leftOf_102 : decode cX10_leftOf 102 = .ok (.ireturn, 1) := dk_172 (dk_at dksX10_leftOf_4 8 rfl rfl)
abbrev cX10_order : ByteArray := prog_14_method_48_code
def yX10_order : MethodName := ⟨RX10, "order", "(I)I"⟩
def dkwX10_order_6 : List UInt8 := [172]
abbrev dktX10_order_6 : List UInt8 := dkwX10_order_6 ++ []
def dkwX10_order_5 : List UInt8 := [154, 0, 9, 132, 3, 1, 167, 255, 240, 28, 4, 29, 120, 2, 130, 126, 61, 132, 4, 1, 167, 255, 159, 29]
abbrev dktX10_order_5 : List UInt8 := dkwX10_order_5 ++ dktX10_order_6
def dkwX10_order_4 : List UInt8 := [3, 128, 54, 5, 132, 6, 1, 167, 255, 206, 3, 62, 28, 21, 5, 2, 130, 126, 29, 184, 0, 176]
abbrev dktX10_order_4 : List UInt8 := dkwX10_order_4 ++ dktX10_order_5
def dkwX10_order_3 : List UInt8 := [104, 4, 96, 46, 184, 0, 176, 153, 0, 17, 4, 42, 180, 0, 29, 5, 21, 6, 104, 46, 120, 167, 0, 4]
abbrev dktX10_order_3 : List UInt8 := dkwX10_order_3 ++ dktX10_order_4
def dkwX10_order_2 : List UInt8 := [54, 5, 3, 54, 6, 21, 6, 42, 180, 0, 133, 162, 0, 47, 21, 5, 28, 42, 180, 0, 29, 5, 21, 6]
abbrev dktX10_order_2 : List UInt8 := dkwX10_order_2 ++ dktX10_order_3
def dkwX10_order_1 : List UInt8 := [161, 0, 6, 16, 251, 172, 42, 182, 0, 217, 61, 3, 62, 3, 54, 4, 21, 4, 27, 163, 0, 97, 3]
abbrev dktX10_order_1 : List UInt8 := dkwX10_order_1 ++ dktX10_order_2
def dkwX10_order_0 : List UInt8 := [27, 156, 0, 5, 2, 172, 42, 182, 0, 223, 4, 160, 0, 6, 16, 247, 172, 27, 42, 180, 0, 71]
abbrev dktX10_order_0 : List UInt8 := dkwX10_order_0 ++ dktX10_order_1
theorem dksX10_order_0 : cX10_order.data.toList.drop 0 = dktX10_order_0 := by decide +kernel
theorem dksX10_order_1 : cX10_order.data.toList.drop 22 = dktX10_order_1 := dk_seg dksX10_order_0 22 rfl rfl
theorem dksX10_order_2 : cX10_order.data.toList.drop 45 = dktX10_order_2 := dk_seg dksX10_order_1 23 rfl rfl
theorem dksX10_order_3 : cX10_order.data.toList.drop 69 = dktX10_order_3 := dk_seg dksX10_order_2 24 rfl rfl
theorem dksX10_order_4 : cX10_order.data.toList.drop 93 = dktX10_order_4 := dk_seg dksX10_order_3 24 rfl rfl
theorem dksX10_order_5 : cX10_order.data.toList.drop 115 = dktX10_order_5 := dk_seg dksX10_order_4 22 rfl rfl
theorem dksX10_order_6 : cX10_order.data.toList.drop 139 = dktX10_order_6 := dk_seg dksX10_order_5 24 rfl rfl
theorem dX10_order_0 : decode cX10_order 0 = .ok (.iload_n 1, 1) := dk_27 (dk_at dksX10_order_0 0 rfl rfl)
theorem dX10_order_1 : decode cX10_order 1 = .ok (.ifCond .ge 5, 3) := dk_156 0 5 (dk_at dksX10_order_0 1 rfl rfl)
theorem dX10_order_4 : decode cX10_order 4 = .ok (.iconst (-1), 1) := dk_2 (dk_at dksX10_order_0 4 rfl rfl)
theorem dX10_order_5 : decode cX10_order 5 = .ok (.ireturn, 1) := dk_172 (dk_at dksX10_order_0 5 rfl rfl)
theorem dX10_order_6 : decode cX10_order 6 = .ok (.aload_n 0, 1) := dk_42 (dk_at dksX10_order_0 6 rfl rfl)
theorem dX10_order_7 : decode cX10_order 7 = .ok (.invokevirtual 223, 3) := dk_182 0 223 (dk_at dksX10_order_0 7 rfl rfl)
theorem dX10_order_10 : decode cX10_order 10 = .ok (.iconst 1, 1) := dk_4 (dk_at dksX10_order_0 10 rfl rfl)
theorem dX10_order_11 : decode cX10_order 11 = .ok (.if_icmp .ne 6, 3) := dk_160 0 6 (dk_at dksX10_order_0 11 rfl rfl)
theorem dX10_order_14 : decode cX10_order 14 = .ok (.bipush (-9), 2) := dk_16 247 (dk_at dksX10_order_0 14 rfl rfl)
theorem dX10_order_16 : decode cX10_order 16 = .ok (.ireturn, 1) := dk_172 (dk_at dksX10_order_0 16 rfl rfl)
theorem dX10_order_17 : decode cX10_order 17 = .ok (.iload_n 1, 1) := dk_27 (dk_at dksX10_order_0 17 rfl rfl)
theorem dX10_order_18 : decode cX10_order 18 = .ok (.aload_n 0, 1) := dk_42 (dk_at dksX10_order_0 18 rfl rfl)
theorem dX10_order_19 : decode cX10_order 19 = .ok (.getfield 71, 3) := dk_180 0 71 (dk_at dksX10_order_0 19 rfl rfl)
theorem dX10_order_22 : decode cX10_order 22 = .ok (.if_icmp .lt 6, 3) := dk_161 0 6 (dk_at dksX10_order_1 0 rfl rfl)
theorem dX10_order_25 : decode cX10_order 25 = .ok (.bipush (-5), 2) := dk_16 251 (dk_at dksX10_order_1 3 rfl rfl)
theorem dX10_order_27 : decode cX10_order 27 = .ok (.ireturn, 1) := dk_172 (dk_at dksX10_order_1 5 rfl rfl)
theorem dX10_order_28 : decode cX10_order 28 = .ok (.aload_n 0, 1) := dk_42 (dk_at dksX10_order_1 6 rfl rfl)
theorem dX10_order_29 : decode cX10_order 29 = .ok (.invokevirtual 217, 3) := dk_182 0 217 (dk_at dksX10_order_1 7 rfl rfl)
theorem dX10_order_32 : decode cX10_order 32 = .ok (.istore_n 2, 1) := dk_61 (dk_at dksX10_order_1 10 rfl rfl)
theorem dX10_order_33 : decode cX10_order 33 = .ok (.iconst 0, 1) := dk_3 (dk_at dksX10_order_1 11 rfl rfl)
theorem dX10_order_34 : decode cX10_order 34 = .ok (.istore_n 3, 1) := dk_62 (dk_at dksX10_order_1 12 rfl rfl)
theorem dX10_order_35 : decode cX10_order 35 = .ok (.iconst 0, 1) := dk_3 (dk_at dksX10_order_1 13 rfl rfl)
theorem dX10_order_36 : decode cX10_order 36 = .ok (.istore 4, 2) := dk_54 4 (dk_at dksX10_order_1 14 rfl rfl)
theorem dX10_order_38 : decode cX10_order 38 = .ok (.iload 4, 2) := dk_21 4 (dk_at dksX10_order_1 16 rfl rfl)
theorem dX10_order_40 : decode cX10_order 40 = .ok (.iload_n 1, 1) := dk_27 (dk_at dksX10_order_1 18 rfl rfl)
theorem dX10_order_41 : decode cX10_order 41 = .ok (.if_icmp .gt 97, 3) := dk_163 0 97 (dk_at dksX10_order_1 19 rfl rfl)
theorem dX10_order_44 : decode cX10_order 44 = .ok (.iconst 0, 1) := dk_3 (dk_at dksX10_order_1 22 rfl rfl)
theorem dX10_order_45 : decode cX10_order 45 = .ok (.istore 5, 2) := dk_54 5 (dk_at dksX10_order_2 0 rfl rfl)
theorem dX10_order_47 : decode cX10_order 47 = .ok (.iconst 0, 1) := dk_3 (dk_at dksX10_order_2 2 rfl rfl)
theorem dX10_order_48 : decode cX10_order 48 = .ok (.istore 6, 2) := dk_54 6 (dk_at dksX10_order_2 3 rfl rfl)
theorem dX10_order_50 : decode cX10_order 50 = .ok (.iload 6, 2) := dk_21 6 (dk_at dksX10_order_2 5 rfl rfl)
theorem dX10_order_52 : decode cX10_order 52 = .ok (.aload_n 0, 1) := dk_42 (dk_at dksX10_order_2 7 rfl rfl)
theorem dX10_order_53 : decode cX10_order 53 = .ok (.getfield 133, 3) := dk_180 0 133 (dk_at dksX10_order_2 8 rfl rfl)
theorem dX10_order_56 : decode cX10_order 56 = .ok (.if_icmp .ge 47, 3) := dk_162 0 47 (dk_at dksX10_order_2 11 rfl rfl)
theorem dX10_order_59 : decode cX10_order 59 = .ok (.iload 5, 2) := dk_21 5 (dk_at dksX10_order_2 14 rfl rfl)
theorem dX10_order_61 : decode cX10_order 61 = .ok (.iload_n 2, 1) := dk_28 (dk_at dksX10_order_2 16 rfl rfl)
theorem dX10_order_62 : decode cX10_order 62 = .ok (.aload_n 0, 1) := dk_42 (dk_at dksX10_order_2 17 rfl rfl)
theorem dX10_order_63 : decode cX10_order 63 = .ok (.getfield 29, 3) := dk_180 0 29 (dk_at dksX10_order_2 18 rfl rfl)
theorem dX10_order_66 : decode cX10_order 66 = .ok (.iconst 2, 1) := dk_5 (dk_at dksX10_order_2 21 rfl rfl)
theorem dX10_order_67 : decode cX10_order 67 = .ok (.iload 6, 2) := dk_21 6 (dk_at dksX10_order_2 22 rfl rfl)
theorem dX10_order_69 : decode cX10_order 69 = .ok (.imul, 1) := dk_104 (dk_at dksX10_order_3 0 rfl rfl)
theorem dX10_order_70 : decode cX10_order 70 = .ok (.iconst 1, 1) := dk_4 (dk_at dksX10_order_3 1 rfl rfl)
theorem dX10_order_71 : decode cX10_order 71 = .ok (.iadd, 1) := dk_96 (dk_at dksX10_order_3 2 rfl rfl)
theorem dX10_order_72 : decode cX10_order 72 = .ok (.iaload, 1) := dk_46 (dk_at dksX10_order_3 3 rfl rfl)
theorem dX10_order_73 : decode cX10_order 73 = .ok (.invokestatic 176, 3) := dk_184 0 176 (dk_at dksX10_order_3 4 rfl rfl)
theorem dX10_order_76 : decode cX10_order 76 = .ok (.ifCond .eq 17, 3) := dk_153 0 17 (dk_at dksX10_order_3 7 rfl rfl)
theorem dX10_order_79 : decode cX10_order 79 = .ok (.iconst 1, 1) := dk_4 (dk_at dksX10_order_3 10 rfl rfl)
theorem dX10_order_80 : decode cX10_order 80 = .ok (.aload_n 0, 1) := dk_42 (dk_at dksX10_order_3 11 rfl rfl)
theorem dX10_order_81 : decode cX10_order 81 = .ok (.getfield 29, 3) := dk_180 0 29 (dk_at dksX10_order_3 12 rfl rfl)
theorem dX10_order_84 : decode cX10_order 84 = .ok (.iconst 2, 1) := dk_5 (dk_at dksX10_order_3 15 rfl rfl)
theorem dX10_order_85 : decode cX10_order 85 = .ok (.iload 6, 2) := dk_21 6 (dk_at dksX10_order_3 16 rfl rfl)
theorem dX10_order_87 : decode cX10_order 87 = .ok (.imul, 1) := dk_104 (dk_at dksX10_order_3 18 rfl rfl)
theorem dX10_order_88 : decode cX10_order 88 = .ok (.iaload, 1) := dk_46 (dk_at dksX10_order_3 19 rfl rfl)
theorem dX10_order_89 : decode cX10_order 89 = .ok (.ishl, 1) := dk_120 (dk_at dksX10_order_3 20 rfl rfl)
theorem dX10_order_90 : decode cX10_order 90 = .ok (.goto 4, 3) := dk_167 0 4 (dk_at dksX10_order_3 21 rfl rfl)
theorem dX10_order_93 : decode cX10_order 93 = .ok (.iconst 0, 1) := dk_3 (dk_at dksX10_order_4 0 rfl rfl)
theorem dX10_order_94 : decode cX10_order 94 = .ok (.ior, 1) := dk_128 (dk_at dksX10_order_4 1 rfl rfl)
theorem dX10_order_95 : decode cX10_order 95 = .ok (.istore 5, 2) := dk_54 5 (dk_at dksX10_order_4 2 rfl rfl)
theorem dX10_order_97 : decode cX10_order 97 = .ok (.iinc 6 1, 3) := dk_132 6 1 (dk_at dksX10_order_4 4 rfl rfl)
theorem dX10_order_100 : decode cX10_order 100 = .ok (.goto (-50), 3) := dk_167 255 206 (dk_at dksX10_order_4 7 rfl rfl)
theorem dX10_order_103 : decode cX10_order 103 = .ok (.iconst 0, 1) := dk_3 (dk_at dksX10_order_4 10 rfl rfl)
theorem dX10_order_104 : decode cX10_order 104 = .ok (.istore_n 3, 1) := dk_62 (dk_at dksX10_order_4 11 rfl rfl)
theorem dX10_order_105 : decode cX10_order 105 = .ok (.iload_n 2, 1) := dk_28 (dk_at dksX10_order_4 12 rfl rfl)
theorem dX10_order_106 : decode cX10_order 106 = .ok (.iload 5, 2) := dk_21 5 (dk_at dksX10_order_4 13 rfl rfl)
theorem dX10_order_108 : decode cX10_order 108 = .ok (.iconst (-1), 1) := dk_2 (dk_at dksX10_order_4 15 rfl rfl)
theorem dX10_order_109 : decode cX10_order 109 = .ok (.ixor, 1) := dk_130 (dk_at dksX10_order_4 16 rfl rfl)
theorem dX10_order_110 : decode cX10_order 110 = .ok (.iand, 1) := dk_126 (dk_at dksX10_order_4 17 rfl rfl)
theorem dX10_order_111 : decode cX10_order 111 = .ok (.iload_n 3, 1) := dk_29 (dk_at dksX10_order_4 18 rfl rfl)
theorem dX10_order_112 : decode cX10_order 112 = .ok (.invokestatic 176, 3) := dk_184 0 176 (dk_at dksX10_order_4 19 rfl rfl)
theorem dX10_order_115 : decode cX10_order 115 = .ok (.ifCond .ne 9, 3) := dk_154 0 9 (dk_at dksX10_order_5 0 rfl rfl)
theorem dX10_order_118 : decode cX10_order 118 = .ok (.iinc 3 1, 3) := dk_132 3 1 (dk_at dksX10_order_5 3 rfl rfl)
theorem dX10_order_121 : decode cX10_order 121 = .ok (.goto (-16), 3) := dk_167 255 240 (dk_at dksX10_order_5 6 rfl rfl)
theorem dX10_order_124 : decode cX10_order 124 = .ok (.iload_n 2, 1) := dk_28 (dk_at dksX10_order_5 9 rfl rfl)
theorem dX10_order_125 : decode cX10_order 125 = .ok (.iconst 1, 1) := dk_4 (dk_at dksX10_order_5 10 rfl rfl)
theorem dX10_order_126 : decode cX10_order 126 = .ok (.iload_n 3, 1) := dk_29 (dk_at dksX10_order_5 11 rfl rfl)
theorem dX10_order_127 : decode cX10_order 127 = .ok (.ishl, 1) := dk_120 (dk_at dksX10_order_5 12 rfl rfl)
theorem dX10_order_128 : decode cX10_order 128 = .ok (.iconst (-1), 1) := dk_2 (dk_at dksX10_order_5 13 rfl rfl)
theorem dX10_order_129 : decode cX10_order 129 = .ok (.ixor, 1) := dk_130 (dk_at dksX10_order_5 14 rfl rfl)
theorem dX10_order_130 : decode cX10_order 130 = .ok (.iand, 1) := dk_126 (dk_at dksX10_order_5 15 rfl rfl)
theorem dX10_order_131 : decode cX10_order 131 = .ok (.istore_n 2, 1) := dk_61 (dk_at dksX10_order_5 16 rfl rfl)
theorem dX10_order_132 : decode cX10_order 132 = .ok (.iinc 4 1, 3) := dk_132 4 1 (dk_at dksX10_order_5 17 rfl rfl)
theorem dX10_order_135 : decode cX10_order 135 = .ok (.goto (-97), 3) := dk_167 255 159 (dk_at dksX10_order_5 20 rfl rfl)
theorem dX10_order_138 : decode cX10_order 138 = .ok (.iload_n 3, 1) := dk_29 (dk_at dksX10_order_5 23 rfl rfl)
theorem dX10_order_139 : decode cX10_order 139 = .ok (.ireturn, 1) := dk_172 (dk_at dksX10_order_6 0 rfl rfl)
abbrev cX10_fewest : ByteArray := prog_14_method_49_code
def yX10_fewest : MethodName := ⟨RX10, "fewest", "(I)I"⟩
def dkwX10_fewest_3 : List UInt8 := [184, 0, 180, 167, 0, 4, 28, 172]
abbrev dktX10_fewest_3 : List UInt8 := dkwX10_fewest_3 ++ []
def dkwX10_fewest_2 : List UInt8 := [182, 0, 220, 154, 0, 7, 29, 167, 0, 4, 28, 61, 132, 3, 255, 167, 255, 217, 27, 154, 0, 10, 28]
abbrev dktX10_fewest_2 : List UInt8 := dkwX10_fewest_2 ++ dktX10_fewest_3
def dkwX10_fewest_1 : List UInt8 := [155, 0, 41, 29, 184, 0, 180, 28, 184, 0, 180, 163, 0, 22, 42, 42, 182, 0, 217, 29, 2, 130, 126]
abbrev dktX10_fewest_1 : List UInt8 := dkwX10_fewest_1 ++ dktX10_fewest_2
def dkwX10_fewest_0 : List UInt8 := [27, 133, 9, 10, 184, 0, 67, 154, 0, 5, 2, 172, 42, 182, 0, 217, 61, 42, 182, 0, 217, 62, 29]
abbrev dktX10_fewest_0 : List UInt8 := dkwX10_fewest_0 ++ dktX10_fewest_1
theorem dksX10_fewest_0 : cX10_fewest.data.toList.drop 0 = dktX10_fewest_0 := by decide +kernel
theorem dksX10_fewest_1 : cX10_fewest.data.toList.drop 23 = dktX10_fewest_1 := dk_seg dksX10_fewest_0 23 rfl rfl
theorem dksX10_fewest_2 : cX10_fewest.data.toList.drop 46 = dktX10_fewest_2 := dk_seg dksX10_fewest_1 23 rfl rfl
theorem dksX10_fewest_3 : cX10_fewest.data.toList.drop 69 = dktX10_fewest_3 := dk_seg dksX10_fewest_2 23 rfl rfl
theorem dX10_fewest_0 : decode cX10_fewest 0 = .ok (.iload_n 1, 1) := dk_27 (dk_at dksX10_fewest_0 0 rfl rfl)
theorem dX10_fewest_1 : decode cX10_fewest 1 = .ok (.i2l, 1) := dk_133 (dk_at dksX10_fewest_0 1 rfl rfl)
theorem dX10_fewest_2 : decode cX10_fewest 2 = .ok (.lconst 0, 1) := dk_9 (dk_at dksX10_fewest_0 2 rfl rfl)
theorem dX10_fewest_3 : decode cX10_fewest 3 = .ok (.lconst 1, 1) := dk_10 (dk_at dksX10_fewest_0 3 rfl rfl)
theorem dX10_fewest_4 : decode cX10_fewest 4 = .ok (.invokestatic 67, 3) := dk_184 0 67 (dk_at dksX10_fewest_0 4 rfl rfl)
theorem dX10_fewest_7 : decode cX10_fewest 7 = .ok (.ifCond .ne 5, 3) := dk_154 0 5 (dk_at dksX10_fewest_0 7 rfl rfl)
theorem dX10_fewest_10 : decode cX10_fewest 10 = .ok (.iconst (-1), 1) := dk_2 (dk_at dksX10_fewest_0 10 rfl rfl)
theorem dX10_fewest_11 : decode cX10_fewest 11 = .ok (.ireturn, 1) := dk_172 (dk_at dksX10_fewest_0 11 rfl rfl)
theorem dX10_fewest_12 : decode cX10_fewest 12 = .ok (.aload_n 0, 1) := dk_42 (dk_at dksX10_fewest_0 12 rfl rfl)
theorem dX10_fewest_13 : decode cX10_fewest 13 = .ok (.invokevirtual 217, 3) := dk_182 0 217 (dk_at dksX10_fewest_0 13 rfl rfl)
theorem dX10_fewest_16 : decode cX10_fewest 16 = .ok (.istore_n 2, 1) := dk_61 (dk_at dksX10_fewest_0 16 rfl rfl)
theorem dX10_fewest_17 : decode cX10_fewest 17 = .ok (.aload_n 0, 1) := dk_42 (dk_at dksX10_fewest_0 17 rfl rfl)
theorem dX10_fewest_18 : decode cX10_fewest 18 = .ok (.invokevirtual 217, 3) := dk_182 0 217 (dk_at dksX10_fewest_0 18 rfl rfl)
theorem dX10_fewest_21 : decode cX10_fewest 21 = .ok (.istore_n 3, 1) := dk_62 (dk_at dksX10_fewest_0 21 rfl rfl)
theorem dX10_fewest_22 : decode cX10_fewest 22 = .ok (.iload_n 3, 1) := dk_29 (dk_at dksX10_fewest_0 22 rfl rfl)
theorem dX10_fewest_23 : decode cX10_fewest 23 = .ok (.ifCond .lt 41, 3) := dk_155 0 41 (dk_at dksX10_fewest_1 0 rfl rfl)
theorem dX10_fewest_26 : decode cX10_fewest 26 = .ok (.iload_n 3, 1) := dk_29 (dk_at dksX10_fewest_1 3 rfl rfl)
theorem dX10_fewest_27 : decode cX10_fewest 27 = .ok (.invokestatic 180, 3) := dk_184 0 180 (dk_at dksX10_fewest_1 4 rfl rfl)
theorem dX10_fewest_30 : decode cX10_fewest 30 = .ok (.iload_n 2, 1) := dk_28 (dk_at dksX10_fewest_1 7 rfl rfl)
theorem dX10_fewest_31 : decode cX10_fewest 31 = .ok (.invokestatic 180, 3) := dk_184 0 180 (dk_at dksX10_fewest_1 8 rfl rfl)
theorem dX10_fewest_34 : decode cX10_fewest 34 = .ok (.if_icmp .gt 22, 3) := dk_163 0 22 (dk_at dksX10_fewest_1 11 rfl rfl)
theorem dX10_fewest_37 : decode cX10_fewest 37 = .ok (.aload_n 0, 1) := dk_42 (dk_at dksX10_fewest_1 14 rfl rfl)
theorem dX10_fewest_38 : decode cX10_fewest 38 = .ok (.aload_n 0, 1) := dk_42 (dk_at dksX10_fewest_1 15 rfl rfl)
theorem dX10_fewest_39 : decode cX10_fewest 39 = .ok (.invokevirtual 217, 3) := dk_182 0 217 (dk_at dksX10_fewest_1 16 rfl rfl)
theorem dX10_fewest_42 : decode cX10_fewest 42 = .ok (.iload_n 3, 1) := dk_29 (dk_at dksX10_fewest_1 19 rfl rfl)
theorem dX10_fewest_43 : decode cX10_fewest 43 = .ok (.iconst (-1), 1) := dk_2 (dk_at dksX10_fewest_1 20 rfl rfl)
theorem dX10_fewest_44 : decode cX10_fewest 44 = .ok (.ixor, 1) := dk_130 (dk_at dksX10_fewest_1 21 rfl rfl)
theorem dX10_fewest_45 : decode cX10_fewest 45 = .ok (.iand, 1) := dk_126 (dk_at dksX10_fewest_1 22 rfl rfl)
theorem dX10_fewest_46 : decode cX10_fewest 46 = .ok (.invokevirtual 220, 3) := dk_182 0 220 (dk_at dksX10_fewest_2 0 rfl rfl)
theorem dX10_fewest_49 : decode cX10_fewest 49 = .ok (.ifCond .ne 7, 3) := dk_154 0 7 (dk_at dksX10_fewest_2 3 rfl rfl)
theorem dX10_fewest_52 : decode cX10_fewest 52 = .ok (.iload_n 3, 1) := dk_29 (dk_at dksX10_fewest_2 6 rfl rfl)
theorem dX10_fewest_53 : decode cX10_fewest 53 = .ok (.goto 4, 3) := dk_167 0 4 (dk_at dksX10_fewest_2 7 rfl rfl)
theorem dX10_fewest_56 : decode cX10_fewest 56 = .ok (.iload_n 2, 1) := dk_28 (dk_at dksX10_fewest_2 10 rfl rfl)
theorem dX10_fewest_57 : decode cX10_fewest 57 = .ok (.istore_n 2, 1) := dk_61 (dk_at dksX10_fewest_2 11 rfl rfl)
theorem dX10_fewest_58 : decode cX10_fewest 58 = .ok (.iinc 3 (-1), 3) := dk_132 3 255 (dk_at dksX10_fewest_2 12 rfl rfl)
theorem dX10_fewest_61 : decode cX10_fewest 61 = .ok (.goto (-39), 3) := dk_167 255 217 (dk_at dksX10_fewest_2 15 rfl rfl)
theorem dX10_fewest_64 : decode cX10_fewest 64 = .ok (.iload_n 1, 1) := dk_27 (dk_at dksX10_fewest_2 18 rfl rfl)
theorem dX10_fewest_65 : decode cX10_fewest 65 = .ok (.ifCond .ne 10, 3) := dk_154 0 10 (dk_at dksX10_fewest_2 19 rfl rfl)
theorem dX10_fewest_68 : decode cX10_fewest 68 = .ok (.iload_n 2, 1) := dk_28 (dk_at dksX10_fewest_2 22 rfl rfl)
theorem dX10_fewest_69 : decode cX10_fewest 69 = .ok (.invokestatic 180, 3) := dk_184 0 180 (dk_at dksX10_fewest_3 0 rfl rfl)
theorem dX10_fewest_72 : decode cX10_fewest 72 = .ok (.goto 4, 3) := dk_167 0 4 (dk_at dksX10_fewest_3 3 rfl rfl)
theorem dX10_fewest_75 : decode cX10_fewest 75 = .ok (.iload_n 2, 1) := dk_28 (dk_at dksX10_fewest_3 6 rfl rfl)
theorem dX10_fewest_76 : decode cX10_fewest 76 = .ok (.ireturn, 1) := dk_172 (dk_at dksX10_fewest_3 7 rfl rfl)
abbrev cX10_great : ByteArray := prog_14_method_51_code
def yX10_great : MethodName := ⟨RX10, "great", "(III)I"⟩
def dkwX10_great_8 : List UInt8 := [21, 4, 158, 0, 8, 16, 247, 167, 0, 14, 29, 154, 0, 8, 21, 5, 167, 0, 5, 21, 6, 172]
abbrev dktX10_great_8 : List UInt8 := dkwX10_great_8 ++ []
def dkwX10_great_7 : List UInt8 := [54, 5, 21, 6, 4, 21, 8, 120, 128, 54, 6, 132, 8, 1, 167, 255, 140, 132, 7, 1, 167, 255, 124]
abbrev dktX10_great_7 : List UInt8 := dkwX10_great_7 ++ dktX10_great_8
def dkwX10_great_6 : List UInt8 := [21, 4, 21, 9, 184, 0, 95, 54, 10, 21, 4, 21, 10, 100, 54, 4, 21, 5, 21, 10, 21, 7, 104, 96]
abbrev dktX10_great_6 : List UInt8 := dkwX10_great_6 ++ dktX10_great_7
def dkwX10_great_5 : List UInt8 := [21, 8, 96, 46, 42, 180, 0, 17, 21, 8, 46, 162, 0, 48, 21, 9, 158, 0, 43, 21, 4, 158, 0, 38]
abbrev dktX10_great_5 : List UInt8 := dkwX10_great_5 ++ dktX10_great_6
def dkwX10_great_4 : List UInt8 := [182, 0, 228, 100, 54, 9, 42, 180, 0, 23, 21, 8, 46, 21, 7, 160, 0, 68, 42, 180, 0, 7, 16, 19]
abbrev dktX10_great_4 : List UInt8 := dkwX10_great_4 ++ dktX10_great_5
def dkwX10_great_3 : List UInt8 := [162, 0, 113, 42, 180, 0, 20, 21, 8, 46, 28, 42, 180, 0, 7, 3, 46, 100, 4, 96, 104, 42, 21, 8]
abbrev dktX10_great_3 : List UInt8 := dkwX10_great_3 ++ dktX10_great_4
def dkwX10_great_2 : List UInt8 := [3, 54, 6, 3, 54, 7, 21, 7, 16, 10, 162, 0, 131, 3, 54, 8, 21, 8, 42, 180, 0, 63]
abbrev dktX10_great_2 : List UInt8 := dkwX10_great_2 ++ dktX10_great_3
def dkwX10_great_1 : List UInt8 := [184, 0, 67, 153, 0, 13, 29, 133, 9, 10, 184, 0, 67, 154, 0, 5, 2, 172, 27, 54, 4, 3, 54, 5]
abbrev dktX10_great_1 : List UInt8 := dkwX10_great_1 ++ dktX10_great_2
def dkwX10_great_0 : List UInt8 := [27, 133, 10, 20, 0, 197, 184, 0, 67, 153, 0, 31, 28, 133, 42, 180, 0, 7, 3, 46, 133, 20, 0, 226]
abbrev dktX10_great_0 : List UInt8 := dkwX10_great_0 ++ dktX10_great_1
theorem dksX10_great_0 : cX10_great.data.toList.drop 0 = dktX10_great_0 := by decide +kernel
theorem dksX10_great_1 : cX10_great.data.toList.drop 24 = dktX10_great_1 := dk_seg dksX10_great_0 24 rfl rfl
theorem dksX10_great_2 : cX10_great.data.toList.drop 48 = dktX10_great_2 := dk_seg dksX10_great_1 24 rfl rfl
theorem dksX10_great_3 : cX10_great.data.toList.drop 70 = dktX10_great_3 := dk_seg dksX10_great_2 22 rfl rfl
theorem dksX10_great_4 : cX10_great.data.toList.drop 94 = dktX10_great_4 := dk_seg dksX10_great_3 24 rfl rfl
theorem dksX10_great_5 : cX10_great.data.toList.drop 118 = dktX10_great_5 := dk_seg dksX10_great_4 24 rfl rfl
theorem dksX10_great_6 : cX10_great.data.toList.drop 142 = dktX10_great_6 := dk_seg dksX10_great_5 24 rfl rfl
theorem dksX10_great_7 : cX10_great.data.toList.drop 166 = dktX10_great_7 := dk_seg dksX10_great_6 24 rfl rfl
theorem dksX10_great_8 : cX10_great.data.toList.drop 189 = dktX10_great_8 := dk_seg dksX10_great_7 23 rfl rfl
theorem dX10_great_0 : decode cX10_great 0 = .ok (.iload_n 1, 1) := dk_27 (dk_at dksX10_great_0 0 rfl rfl)
theorem dX10_great_1 : decode cX10_great 1 = .ok (.i2l, 1) := dk_133 (dk_at dksX10_great_0 1 rfl rfl)
theorem dX10_great_2 : decode cX10_great 2 = .ok (.lconst 1, 1) := dk_10 (dk_at dksX10_great_0 2 rfl rfl)
theorem dX10_great_3 : decode cX10_great 3 = .ok (.ldc2_w 197, 3) := dk_20 0 197 (dk_at dksX10_great_0 3 rfl rfl)
theorem dX10_great_6 : decode cX10_great 6 = .ok (.invokestatic 67, 3) := dk_184 0 67 (dk_at dksX10_great_0 6 rfl rfl)
theorem dX10_great_9 : decode cX10_great 9 = .ok (.ifCond .eq 31, 3) := dk_153 0 31 (dk_at dksX10_great_0 9 rfl rfl)
theorem dX10_great_12 : decode cX10_great 12 = .ok (.iload_n 2, 1) := dk_28 (dk_at dksX10_great_0 12 rfl rfl)
theorem dX10_great_13 : decode cX10_great 13 = .ok (.i2l, 1) := dk_133 (dk_at dksX10_great_0 13 rfl rfl)
theorem dX10_great_14 : decode cX10_great 14 = .ok (.aload_n 0, 1) := dk_42 (dk_at dksX10_great_0 14 rfl rfl)
theorem dX10_great_15 : decode cX10_great 15 = .ok (.getfield 7, 3) := dk_180 0 7 (dk_at dksX10_great_0 15 rfl rfl)
theorem dX10_great_18 : decode cX10_great 18 = .ok (.iconst 0, 1) := dk_3 (dk_at dksX10_great_0 18 rfl rfl)
theorem dX10_great_19 : decode cX10_great 19 = .ok (.iaload, 1) := dk_46 (dk_at dksX10_great_0 19 rfl rfl)
theorem dX10_great_20 : decode cX10_great 20 = .ok (.i2l, 1) := dk_133 (dk_at dksX10_great_0 20 rfl rfl)
theorem dX10_great_21 : decode cX10_great 21 = .ok (.ldc2_w 226, 3) := dk_20 0 226 (dk_at dksX10_great_0 21 rfl rfl)
theorem dX10_great_24 : decode cX10_great 24 = .ok (.invokestatic 67, 3) := dk_184 0 67 (dk_at dksX10_great_1 0 rfl rfl)
theorem dX10_great_27 : decode cX10_great 27 = .ok (.ifCond .eq 13, 3) := dk_153 0 13 (dk_at dksX10_great_1 3 rfl rfl)
theorem dX10_great_30 : decode cX10_great 30 = .ok (.iload_n 3, 1) := dk_29 (dk_at dksX10_great_1 6 rfl rfl)
theorem dX10_great_31 : decode cX10_great 31 = .ok (.i2l, 1) := dk_133 (dk_at dksX10_great_1 7 rfl rfl)
theorem dX10_great_32 : decode cX10_great 32 = .ok (.lconst 0, 1) := dk_9 (dk_at dksX10_great_1 8 rfl rfl)
theorem dX10_great_33 : decode cX10_great 33 = .ok (.lconst 1, 1) := dk_10 (dk_at dksX10_great_1 9 rfl rfl)
theorem dX10_great_34 : decode cX10_great 34 = .ok (.invokestatic 67, 3) := dk_184 0 67 (dk_at dksX10_great_1 10 rfl rfl)
theorem dX10_great_37 : decode cX10_great 37 = .ok (.ifCond .ne 5, 3) := dk_154 0 5 (dk_at dksX10_great_1 13 rfl rfl)
theorem dX10_great_40 : decode cX10_great 40 = .ok (.iconst (-1), 1) := dk_2 (dk_at dksX10_great_1 16 rfl rfl)
theorem dX10_great_41 : decode cX10_great 41 = .ok (.ireturn, 1) := dk_172 (dk_at dksX10_great_1 17 rfl rfl)
theorem dX10_great_42 : decode cX10_great 42 = .ok (.iload_n 1, 1) := dk_27 (dk_at dksX10_great_1 18 rfl rfl)
theorem dX10_great_43 : decode cX10_great 43 = .ok (.istore 4, 2) := dk_54 4 (dk_at dksX10_great_1 19 rfl rfl)
theorem dX10_great_45 : decode cX10_great 45 = .ok (.iconst 0, 1) := dk_3 (dk_at dksX10_great_1 21 rfl rfl)
theorem dX10_great_46 : decode cX10_great 46 = .ok (.istore 5, 2) := dk_54 5 (dk_at dksX10_great_1 22 rfl rfl)
theorem dX10_great_48 : decode cX10_great 48 = .ok (.iconst 0, 1) := dk_3 (dk_at dksX10_great_2 0 rfl rfl)
theorem dX10_great_49 : decode cX10_great 49 = .ok (.istore 6, 2) := dk_54 6 (dk_at dksX10_great_2 1 rfl rfl)
theorem dX10_great_51 : decode cX10_great 51 = .ok (.iconst 0, 1) := dk_3 (dk_at dksX10_great_2 3 rfl rfl)
theorem dX10_great_52 : decode cX10_great 52 = .ok (.istore 7, 2) := dk_54 7 (dk_at dksX10_great_2 4 rfl rfl)
theorem dX10_great_54 : decode cX10_great 54 = .ok (.iload 7, 2) := dk_21 7 (dk_at dksX10_great_2 6 rfl rfl)
theorem dX10_great_56 : decode cX10_great 56 = .ok (.bipush 10, 2) := dk_16 10 (dk_at dksX10_great_2 8 rfl rfl)
theorem dX10_great_58 : decode cX10_great 58 = .ok (.if_icmp .ge 131, 3) := dk_162 0 131 (dk_at dksX10_great_2 10 rfl rfl)
theorem dX10_great_61 : decode cX10_great 61 = .ok (.iconst 0, 1) := dk_3 (dk_at dksX10_great_2 13 rfl rfl)
theorem dX10_great_62 : decode cX10_great 62 = .ok (.istore 8, 2) := dk_54 8 (dk_at dksX10_great_2 14 rfl rfl)
theorem dX10_great_64 : decode cX10_great 64 = .ok (.iload 8, 2) := dk_21 8 (dk_at dksX10_great_2 16 rfl rfl)
theorem dX10_great_66 : decode cX10_great 66 = .ok (.aload_n 0, 1) := dk_42 (dk_at dksX10_great_2 18 rfl rfl)
theorem dX10_great_67 : decode cX10_great 67 = .ok (.getfield 63, 3) := dk_180 0 63 (dk_at dksX10_great_2 19 rfl rfl)
theorem dX10_great_70 : decode cX10_great 70 = .ok (.if_icmp .ge 113, 3) := dk_162 0 113 (dk_at dksX10_great_3 0 rfl rfl)
theorem dX10_great_73 : decode cX10_great 73 = .ok (.aload_n 0, 1) := dk_42 (dk_at dksX10_great_3 3 rfl rfl)
theorem dX10_great_74 : decode cX10_great 74 = .ok (.getfield 20, 3) := dk_180 0 20 (dk_at dksX10_great_3 4 rfl rfl)
theorem dX10_great_77 : decode cX10_great 77 = .ok (.iload 8, 2) := dk_21 8 (dk_at dksX10_great_3 7 rfl rfl)
theorem dX10_great_79 : decode cX10_great 79 = .ok (.iaload, 1) := dk_46 (dk_at dksX10_great_3 9 rfl rfl)
theorem dX10_great_80 : decode cX10_great 80 = .ok (.iload_n 2, 1) := dk_28 (dk_at dksX10_great_3 10 rfl rfl)
theorem dX10_great_81 : decode cX10_great 81 = .ok (.aload_n 0, 1) := dk_42 (dk_at dksX10_great_3 11 rfl rfl)
theorem dX10_great_82 : decode cX10_great 82 = .ok (.getfield 7, 3) := dk_180 0 7 (dk_at dksX10_great_3 12 rfl rfl)
theorem dX10_great_85 : decode cX10_great 85 = .ok (.iconst 0, 1) := dk_3 (dk_at dksX10_great_3 15 rfl rfl)
theorem dX10_great_86 : decode cX10_great 86 = .ok (.iaload, 1) := dk_46 (dk_at dksX10_great_3 16 rfl rfl)
theorem dX10_great_87 : decode cX10_great 87 = .ok (.isub, 1) := dk_100 (dk_at dksX10_great_3 17 rfl rfl)
theorem dX10_great_88 : decode cX10_great 88 = .ok (.iconst 1, 1) := dk_4 (dk_at dksX10_great_3 18 rfl rfl)
theorem dX10_great_89 : decode cX10_great 89 = .ok (.iadd, 1) := dk_96 (dk_at dksX10_great_3 19 rfl rfl)
theorem dX10_great_90 : decode cX10_great 90 = .ok (.imul, 1) := dk_104 (dk_at dksX10_great_3 20 rfl rfl)
theorem dX10_great_91 : decode cX10_great 91 = .ok (.aload_n 0, 1) := dk_42 (dk_at dksX10_great_3 21 rfl rfl)
theorem dX10_great_92 : decode cX10_great 92 = .ok (.iload 8, 2) := dk_21 8 (dk_at dksX10_great_3 22 rfl rfl)
theorem dX10_great_94 : decode cX10_great 94 = .ok (.invokevirtual 228, 3) := dk_182 0 228 (dk_at dksX10_great_4 0 rfl rfl)
theorem dX10_great_97 : decode cX10_great 97 = .ok (.isub, 1) := dk_100 (dk_at dksX10_great_4 3 rfl rfl)
theorem dX10_great_98 : decode cX10_great 98 = .ok (.istore 9, 2) := dk_54 9 (dk_at dksX10_great_4 4 rfl rfl)
theorem dX10_great_100 : decode cX10_great 100 = .ok (.aload_n 0, 1) := dk_42 (dk_at dksX10_great_4 6 rfl rfl)
theorem dX10_great_101 : decode cX10_great 101 = .ok (.getfield 23, 3) := dk_180 0 23 (dk_at dksX10_great_4 7 rfl rfl)
theorem dX10_great_104 : decode cX10_great 104 = .ok (.iload 8, 2) := dk_21 8 (dk_at dksX10_great_4 10 rfl rfl)
theorem dX10_great_106 : decode cX10_great 106 = .ok (.iaload, 1) := dk_46 (dk_at dksX10_great_4 12 rfl rfl)
theorem dX10_great_107 : decode cX10_great 107 = .ok (.iload 7, 2) := dk_21 7 (dk_at dksX10_great_4 13 rfl rfl)
theorem dX10_great_109 : decode cX10_great 109 = .ok (.if_icmp .ne 68, 3) := dk_160 0 68 (dk_at dksX10_great_4 15 rfl rfl)
theorem dX10_great_112 : decode cX10_great 112 = .ok (.aload_n 0, 1) := dk_42 (dk_at dksX10_great_4 18 rfl rfl)
theorem dX10_great_113 : decode cX10_great 113 = .ok (.getfield 7, 3) := dk_180 0 7 (dk_at dksX10_great_4 19 rfl rfl)
theorem dX10_great_116 : decode cX10_great 116 = .ok (.bipush 19, 2) := dk_16 19 (dk_at dksX10_great_4 22 rfl rfl)
theorem dX10_great_118 : decode cX10_great 118 = .ok (.iload 8, 2) := dk_21 8 (dk_at dksX10_great_5 0 rfl rfl)
theorem dX10_great_120 : decode cX10_great 120 = .ok (.iadd, 1) := dk_96 (dk_at dksX10_great_5 2 rfl rfl)
theorem dX10_great_121 : decode cX10_great 121 = .ok (.iaload, 1) := dk_46 (dk_at dksX10_great_5 3 rfl rfl)
theorem dX10_great_122 : decode cX10_great 122 = .ok (.aload_n 0, 1) := dk_42 (dk_at dksX10_great_5 4 rfl rfl)
theorem dX10_great_123 : decode cX10_great 123 = .ok (.getfield 17, 3) := dk_180 0 17 (dk_at dksX10_great_5 5 rfl rfl)
theorem dX10_great_126 : decode cX10_great 126 = .ok (.iload 8, 2) := dk_21 8 (dk_at dksX10_great_5 8 rfl rfl)
theorem dX10_great_128 : decode cX10_great 128 = .ok (.iaload, 1) := dk_46 (dk_at dksX10_great_5 10 rfl rfl)
theorem dX10_great_129 : decode cX10_great 129 = .ok (.if_icmp .ge 48, 3) := dk_162 0 48 (dk_at dksX10_great_5 11 rfl rfl)
theorem dX10_great_132 : decode cX10_great 132 = .ok (.iload 9, 2) := dk_21 9 (dk_at dksX10_great_5 14 rfl rfl)
theorem dX10_great_134 : decode cX10_great 134 = .ok (.ifCond .le 43, 3) := dk_158 0 43 (dk_at dksX10_great_5 16 rfl rfl)
theorem dX10_great_137 : decode cX10_great 137 = .ok (.iload 4, 2) := dk_21 4 (dk_at dksX10_great_5 19 rfl rfl)
theorem dX10_great_139 : decode cX10_great 139 = .ok (.ifCond .le 38, 3) := dk_158 0 38 (dk_at dksX10_great_5 21 rfl rfl)
theorem dX10_great_142 : decode cX10_great 142 = .ok (.iload 4, 2) := dk_21 4 (dk_at dksX10_great_6 0 rfl rfl)
theorem dX10_great_144 : decode cX10_great 144 = .ok (.iload 9, 2) := dk_21 9 (dk_at dksX10_great_6 2 rfl rfl)
theorem dX10_great_146 : decode cX10_great 146 = .ok (.invokestatic 95, 3) := dk_184 0 95 (dk_at dksX10_great_6 4 rfl rfl)
theorem dX10_great_149 : decode cX10_great 149 = .ok (.istore 10, 2) := dk_54 10 (dk_at dksX10_great_6 7 rfl rfl)
theorem dX10_great_151 : decode cX10_great 151 = .ok (.iload 4, 2) := dk_21 4 (dk_at dksX10_great_6 9 rfl rfl)
theorem dX10_great_153 : decode cX10_great 153 = .ok (.iload 10, 2) := dk_21 10 (dk_at dksX10_great_6 11 rfl rfl)
theorem dX10_great_155 : decode cX10_great 155 = .ok (.isub, 1) := dk_100 (dk_at dksX10_great_6 13 rfl rfl)
theorem dX10_great_156 : decode cX10_great 156 = .ok (.istore 4, 2) := dk_54 4 (dk_at dksX10_great_6 14 rfl rfl)
theorem dX10_great_158 : decode cX10_great 158 = .ok (.iload 5, 2) := dk_21 5 (dk_at dksX10_great_6 16 rfl rfl)
theorem dX10_great_160 : decode cX10_great 160 = .ok (.iload 10, 2) := dk_21 10 (dk_at dksX10_great_6 18 rfl rfl)
theorem dX10_great_162 : decode cX10_great 162 = .ok (.iload 7, 2) := dk_21 7 (dk_at dksX10_great_6 20 rfl rfl)
theorem dX10_great_164 : decode cX10_great 164 = .ok (.imul, 1) := dk_104 (dk_at dksX10_great_6 22 rfl rfl)
theorem dX10_great_165 : decode cX10_great 165 = .ok (.iadd, 1) := dk_96 (dk_at dksX10_great_6 23 rfl rfl)
theorem dX10_great_166 : decode cX10_great 166 = .ok (.istore 5, 2) := dk_54 5 (dk_at dksX10_great_7 0 rfl rfl)
theorem dX10_great_168 : decode cX10_great 168 = .ok (.iload 6, 2) := dk_21 6 (dk_at dksX10_great_7 2 rfl rfl)
theorem dX10_great_170 : decode cX10_great 170 = .ok (.iconst 1, 1) := dk_4 (dk_at dksX10_great_7 4 rfl rfl)
theorem dX10_great_171 : decode cX10_great 171 = .ok (.iload 8, 2) := dk_21 8 (dk_at dksX10_great_7 5 rfl rfl)
theorem dX10_great_173 : decode cX10_great 173 = .ok (.ishl, 1) := dk_120 (dk_at dksX10_great_7 7 rfl rfl)
theorem dX10_great_174 : decode cX10_great 174 = .ok (.ior, 1) := dk_128 (dk_at dksX10_great_7 8 rfl rfl)
theorem dX10_great_175 : decode cX10_great 175 = .ok (.istore 6, 2) := dk_54 6 (dk_at dksX10_great_7 9 rfl rfl)
theorem dX10_great_177 : decode cX10_great 177 = .ok (.iinc 8 1, 3) := dk_132 8 1 (dk_at dksX10_great_7 11 rfl rfl)
theorem dX10_great_180 : decode cX10_great 180 = .ok (.goto (-116), 3) := dk_167 255 140 (dk_at dksX10_great_7 14 rfl rfl)
theorem dX10_great_183 : decode cX10_great 183 = .ok (.iinc 7 1, 3) := dk_132 7 1 (dk_at dksX10_great_7 17 rfl rfl)
theorem dX10_great_186 : decode cX10_great 186 = .ok (.goto (-132), 3) := dk_167 255 124 (dk_at dksX10_great_7 20 rfl rfl)
theorem dX10_great_189 : decode cX10_great 189 = .ok (.iload 4, 2) := dk_21 4 (dk_at dksX10_great_8 0 rfl rfl)
theorem dX10_great_191 : decode cX10_great 191 = .ok (.ifCond .le 8, 3) := dk_158 0 8 (dk_at dksX10_great_8 2 rfl rfl)
theorem dX10_great_194 : decode cX10_great 194 = .ok (.bipush (-9), 2) := dk_16 247 (dk_at dksX10_great_8 5 rfl rfl)
theorem dX10_great_196 : decode cX10_great 196 = .ok (.goto 14, 3) := dk_167 0 14 (dk_at dksX10_great_8 7 rfl rfl)
theorem dX10_great_199 : decode cX10_great 199 = .ok (.iload_n 3, 1) := dk_29 (dk_at dksX10_great_8 10 rfl rfl)
theorem dX10_great_200 : decode cX10_great 200 = .ok (.ifCond .ne 8, 3) := dk_154 0 8 (dk_at dksX10_great_8 11 rfl rfl)
theorem dX10_great_203 : decode cX10_great 203 = .ok (.iload 5, 2) := dk_21 5 (dk_at dksX10_great_8 14 rfl rfl)
theorem dX10_great_205 : decode cX10_great 205 = .ok (.goto 5, 3) := dk_167 0 5 (dk_at dksX10_great_8 16 rfl rfl)
theorem dX10_great_208 : decode cX10_great 208 = .ok (.iload 6, 2) := dk_21 6 (dk_at dksX10_great_8 19 rfl rfl)
theorem dX10_great_210 : decode cX10_great 210 = .ok (.ireturn, 1) := dk_172 (dk_at dksX10_great_8 21 rfl rfl)
abbrev cX10_leftTo : ByteArray := prog_14_method_50_code
def yX10_leftTo : MethodName := ⟨RX10, "leftTo", "(I)I"⟩
def dkwX10_leftTo_2 : List UInt8 := [172]
abbrev dktX10_leftTo_2 : List UInt8 := dkwX10_leftTo_2 ++ []
def dkwX10_leftTo_1 : List UInt8 := [42, 180, 0, 7, 16, 23, 8, 27, 104, 96, 29, 96, 46, 96, 46, 96, 61, 132, 3, 1, 167, 255, 216, 28]
abbrev dktX10_leftTo_1 : List UInt8 := dkwX10_leftTo_1 ++ dktX10_leftTo_2
def dkwX10_leftTo_0 : List UInt8 := [3, 61, 3, 62, 29, 42, 180, 0, 7, 16, 19, 27, 96, 46, 162, 0, 33, 28, 42, 180, 0, 7, 16, 11]
abbrev dktX10_leftTo_0 : List UInt8 := dkwX10_leftTo_0 ++ dktX10_leftTo_1
theorem dksX10_leftTo_0 : cX10_leftTo.data.toList.drop 0 = dktX10_leftTo_0 := by decide +kernel
theorem dksX10_leftTo_1 : cX10_leftTo.data.toList.drop 24 = dktX10_leftTo_1 := dk_seg dksX10_leftTo_0 24 rfl rfl
theorem dksX10_leftTo_2 : cX10_leftTo.data.toList.drop 48 = dktX10_leftTo_2 := dk_seg dksX10_leftTo_1 24 rfl rfl
theorem dX10_leftTo_0 : decode cX10_leftTo 0 = .ok (.iconst 0, 1) := dk_3 (dk_at dksX10_leftTo_0 0 rfl rfl)
theorem dX10_leftTo_1 : decode cX10_leftTo 1 = .ok (.istore_n 2, 1) := dk_61 (dk_at dksX10_leftTo_0 1 rfl rfl)
theorem dX10_leftTo_2 : decode cX10_leftTo 2 = .ok (.iconst 0, 1) := dk_3 (dk_at dksX10_leftTo_0 2 rfl rfl)
theorem dX10_leftTo_3 : decode cX10_leftTo 3 = .ok (.istore_n 3, 1) := dk_62 (dk_at dksX10_leftTo_0 3 rfl rfl)
theorem dX10_leftTo_4 : decode cX10_leftTo 4 = .ok (.iload_n 3, 1) := dk_29 (dk_at dksX10_leftTo_0 4 rfl rfl)
theorem dX10_leftTo_5 : decode cX10_leftTo 5 = .ok (.aload_n 0, 1) := dk_42 (dk_at dksX10_leftTo_0 5 rfl rfl)
theorem dX10_leftTo_6 : decode cX10_leftTo 6 = .ok (.getfield 7, 3) := dk_180 0 7 (dk_at dksX10_leftTo_0 6 rfl rfl)
theorem dX10_leftTo_9 : decode cX10_leftTo 9 = .ok (.bipush 19, 2) := dk_16 19 (dk_at dksX10_leftTo_0 9 rfl rfl)
theorem dX10_leftTo_11 : decode cX10_leftTo 11 = .ok (.iload_n 1, 1) := dk_27 (dk_at dksX10_leftTo_0 11 rfl rfl)
theorem dX10_leftTo_12 : decode cX10_leftTo 12 = .ok (.iadd, 1) := dk_96 (dk_at dksX10_leftTo_0 12 rfl rfl)
theorem dX10_leftTo_13 : decode cX10_leftTo 13 = .ok (.iaload, 1) := dk_46 (dk_at dksX10_leftTo_0 13 rfl rfl)
theorem dX10_leftTo_14 : decode cX10_leftTo 14 = .ok (.if_icmp .ge 33, 3) := dk_162 0 33 (dk_at dksX10_leftTo_0 14 rfl rfl)
theorem dX10_leftTo_17 : decode cX10_leftTo 17 = .ok (.iload_n 2, 1) := dk_28 (dk_at dksX10_leftTo_0 17 rfl rfl)
theorem dX10_leftTo_18 : decode cX10_leftTo 18 = .ok (.aload_n 0, 1) := dk_42 (dk_at dksX10_leftTo_0 18 rfl rfl)
theorem dX10_leftTo_19 : decode cX10_leftTo 19 = .ok (.getfield 7, 3) := dk_180 0 7 (dk_at dksX10_leftTo_0 19 rfl rfl)
theorem dX10_leftTo_22 : decode cX10_leftTo 22 = .ok (.bipush 11, 2) := dk_16 11 (dk_at dksX10_leftTo_0 22 rfl rfl)
theorem dX10_leftTo_24 : decode cX10_leftTo 24 = .ok (.aload_n 0, 1) := dk_42 (dk_at dksX10_leftTo_1 0 rfl rfl)
theorem dX10_leftTo_25 : decode cX10_leftTo 25 = .ok (.getfield 7, 3) := dk_180 0 7 (dk_at dksX10_leftTo_1 1 rfl rfl)
theorem dX10_leftTo_28 : decode cX10_leftTo 28 = .ok (.bipush 23, 2) := dk_16 23 (dk_at dksX10_leftTo_1 4 rfl rfl)
theorem dX10_leftTo_30 : decode cX10_leftTo 30 = .ok (.iconst 5, 1) := dk_8 (dk_at dksX10_leftTo_1 6 rfl rfl)
theorem dX10_leftTo_31 : decode cX10_leftTo 31 = .ok (.iload_n 1, 1) := dk_27 (dk_at dksX10_leftTo_1 7 rfl rfl)
theorem dX10_leftTo_32 : decode cX10_leftTo 32 = .ok (.imul, 1) := dk_104 (dk_at dksX10_leftTo_1 8 rfl rfl)
theorem dX10_leftTo_33 : decode cX10_leftTo 33 = .ok (.iadd, 1) := dk_96 (dk_at dksX10_leftTo_1 9 rfl rfl)
theorem dX10_leftTo_34 : decode cX10_leftTo 34 = .ok (.iload_n 3, 1) := dk_29 (dk_at dksX10_leftTo_1 10 rfl rfl)
theorem dX10_leftTo_35 : decode cX10_leftTo 35 = .ok (.iadd, 1) := dk_96 (dk_at dksX10_leftTo_1 11 rfl rfl)
theorem dX10_leftTo_36 : decode cX10_leftTo 36 = .ok (.iaload, 1) := dk_46 (dk_at dksX10_leftTo_1 12 rfl rfl)
theorem dX10_leftTo_37 : decode cX10_leftTo 37 = .ok (.iadd, 1) := dk_96 (dk_at dksX10_leftTo_1 13 rfl rfl)
theorem dX10_leftTo_38 : decode cX10_leftTo 38 = .ok (.iaload, 1) := dk_46 (dk_at dksX10_leftTo_1 14 rfl rfl)
theorem dX10_leftTo_39 : decode cX10_leftTo 39 = .ok (.iadd, 1) := dk_96 (dk_at dksX10_leftTo_1 15 rfl rfl)
theorem dX10_leftTo_40 : decode cX10_leftTo 40 = .ok (.istore_n 2, 1) := dk_61 (dk_at dksX10_leftTo_1 16 rfl rfl)
theorem dX10_leftTo_41 : decode cX10_leftTo 41 = .ok (.iinc 3 1, 3) := dk_132 3 1 (dk_at dksX10_leftTo_1 17 rfl rfl)
theorem dX10_leftTo_44 : decode cX10_leftTo 44 = .ok (.goto (-40), 3) := dk_167 255 216 (dk_at dksX10_leftTo_1 20 rfl rfl)
theorem dX10_leftTo_47 : decode cX10_leftTo 47 = .ok (.iload_n 2, 1) := dk_28 (dk_at dksX10_leftTo_1 23 rfl rfl)
theorem dX10_leftTo_48 : decode cX10_leftTo 48 = .ok (.ireturn, 1) := dk_172 (dk_at dksX10_leftTo_2 0 rfl rfl)
abbrev cX10_rate : ByteArray := prog_14_method_52_code
def yX10_rate : MethodName := ⟨RX10, "rate", "(II)I"⟩
def dkwX10_rate_8 : List UInt8 := [20, 0, 242, 97, 181, 0, 232, 29, 42, 180, 0, 7, 3, 46, 96, 172, 29, 172]
abbrev dktX10_rate_8 : List UInt8 := dkwX10_rate_8 ++ []
def dkwX10_rate_7 : List UInt8 := [20, 0, 240, 97, 181, 0, 232, 29, 42, 28, 182, 0, 228, 100, 28, 96, 172, 42, 89, 180, 0, 232]
abbrev dktX10_rate_7 : List UInt8 := dkwX10_rate_7 ++ dktX10_rate_8
def dkwX10_rate_6 : List UInt8 := [20, 0, 238, 97, 181, 0, 232, 5, 29, 42, 180, 0, 20, 28, 46, 96, 104, 172, 42, 89, 180, 0, 232]
abbrev dktX10_rate_6 : List UInt8 := dkwX10_rate_6 ++ dktX10_rate_7
def dkwX10_rate_5 : List UInt8 := [180, 0, 232, 20, 0, 236, 97, 181, 0, 232, 29, 42, 28, 182, 0, 228, 100, 172, 42, 89, 180, 0, 232]
abbrev dktX10_rate_5 : List UInt8 := dkwX10_rate_5 ++ dktX10_rate_6
def dkwX10_rate_4 : List UInt8 := [42, 89, 180, 0, 232, 20, 0, 195, 97, 181, 0, 232, 29, 42, 180, 0, 20, 28, 46, 96, 172, 42, 89]
abbrev dktX10_rate_4 : List UInt8 := dkwX10_rate_4 ++ dktX10_rate_5
def dkwX10_rate_3 : List UInt8 := [170, 0, 0, 0, 140, 0, 0, 0, 1, 0, 0, 0, 5, 0, 0, 0, 33, 0, 0, 0, 54, 0, 0, 0, 74, 0, 0, 0, 97, 0, 0, 0, 119]
abbrev dktX10_rate_3 : List UInt8 := dkwX10_rate_3 ++ dktX10_rate_4
def dkwX10_rate_2 : List UInt8 := [181, 0, 232, 27]
abbrev dktX10_rate_2 : List UInt8 := dkwX10_rate_2 ++ dktX10_rate_3
def dkwX10_rate_1 : List UInt8 := [180, 0, 17, 28, 46, 42, 180, 0, 7, 16, 19, 28, 96, 46, 100, 62, 42, 89, 180, 0, 232, 10, 97]
abbrev dktX10_rate_1 : List UInt8 := dkwX10_rate_1 ++ dktX10_rate_2
def dkwX10_rate_0 : List UInt8 := [27, 133, 9, 20, 0, 215, 184, 0, 67, 153, 0, 11, 42, 28, 182, 0, 136, 154, 0, 6, 18, 231, 172, 42]
abbrev dktX10_rate_0 : List UInt8 := dkwX10_rate_0 ++ dktX10_rate_1
theorem dksX10_rate_0 : cX10_rate.data.toList.drop 0 = dktX10_rate_0 := by decide +kernel
theorem dksX10_rate_1 : cX10_rate.data.toList.drop 24 = dktX10_rate_1 := dk_seg dksX10_rate_0 24 rfl rfl
theorem dksX10_rate_2 : cX10_rate.data.toList.drop 47 = dktX10_rate_2 := dk_seg dksX10_rate_1 23 rfl rfl
theorem dksX10_rate_3 : cX10_rate.data.toList.drop 51 = dktX10_rate_3 := dk_seg dksX10_rate_2 4 rfl rfl
theorem dksX10_rate_4 : cX10_rate.data.toList.drop 84 = dktX10_rate_4 := dk_seg dksX10_rate_3 33 rfl rfl
theorem dksX10_rate_5 : cX10_rate.data.toList.drop 107 = dktX10_rate_5 := dk_seg dksX10_rate_4 23 rfl rfl
theorem dksX10_rate_6 : cX10_rate.data.toList.drop 130 = dktX10_rate_6 := dk_seg dksX10_rate_5 23 rfl rfl
theorem dksX10_rate_7 : cX10_rate.data.toList.drop 153 = dktX10_rate_7 := dk_seg dksX10_rate_6 23 rfl rfl
theorem dksX10_rate_8 : cX10_rate.data.toList.drop 175 = dktX10_rate_8 := dk_seg dksX10_rate_7 22 rfl rfl
theorem dX10_rate_0 : decode cX10_rate 0 = .ok (.iload_n 1, 1) := dk_27 (dk_at dksX10_rate_0 0 rfl rfl)
theorem dX10_rate_1 : decode cX10_rate 1 = .ok (.i2l, 1) := dk_133 (dk_at dksX10_rate_0 1 rfl rfl)
theorem dX10_rate_2 : decode cX10_rate 2 = .ok (.lconst 0, 1) := dk_9 (dk_at dksX10_rate_0 2 rfl rfl)
theorem dX10_rate_3 : decode cX10_rate 3 = .ok (.ldc2_w 215, 3) := dk_20 0 215 (dk_at dksX10_rate_0 3 rfl rfl)
theorem dX10_rate_6 : decode cX10_rate 6 = .ok (.invokestatic 67, 3) := dk_184 0 67 (dk_at dksX10_rate_0 6 rfl rfl)
theorem dX10_rate_9 : decode cX10_rate 9 = .ok (.ifCond .eq 11, 3) := dk_153 0 11 (dk_at dksX10_rate_0 9 rfl rfl)
theorem dX10_rate_12 : decode cX10_rate 12 = .ok (.aload_n 0, 1) := dk_42 (dk_at dksX10_rate_0 12 rfl rfl)
theorem dX10_rate_13 : decode cX10_rate 13 = .ok (.iload_n 2, 1) := dk_28 (dk_at dksX10_rate_0 13 rfl rfl)
theorem dX10_rate_14 : decode cX10_rate 14 = .ok (.invokevirtual 136, 3) := dk_182 0 136 (dk_at dksX10_rate_0 14 rfl rfl)
theorem dX10_rate_17 : decode cX10_rate 17 = .ok (.ifCond .ne 6, 3) := dk_154 0 6 (dk_at dksX10_rate_0 17 rfl rfl)
theorem dX10_rate_20 : decode cX10_rate 20 = .ok (.ldc 231, 2) := dk_18 231 (dk_at dksX10_rate_0 20 rfl rfl)
theorem dX10_rate_22 : decode cX10_rate 22 = .ok (.ireturn, 1) := dk_172 (dk_at dksX10_rate_0 22 rfl rfl)
theorem dX10_rate_23 : decode cX10_rate 23 = .ok (.aload_n 0, 1) := dk_42 (dk_at dksX10_rate_0 23 rfl rfl)
theorem dX10_rate_24 : decode cX10_rate 24 = .ok (.getfield 17, 3) := dk_180 0 17 (dk_at dksX10_rate_1 0 rfl rfl)
theorem dX10_rate_27 : decode cX10_rate 27 = .ok (.iload_n 2, 1) := dk_28 (dk_at dksX10_rate_1 3 rfl rfl)
theorem dX10_rate_28 : decode cX10_rate 28 = .ok (.iaload, 1) := dk_46 (dk_at dksX10_rate_1 4 rfl rfl)
theorem dX10_rate_29 : decode cX10_rate 29 = .ok (.aload_n 0, 1) := dk_42 (dk_at dksX10_rate_1 5 rfl rfl)
theorem dX10_rate_30 : decode cX10_rate 30 = .ok (.getfield 7, 3) := dk_180 0 7 (dk_at dksX10_rate_1 6 rfl rfl)
theorem dX10_rate_33 : decode cX10_rate 33 = .ok (.bipush 19, 2) := dk_16 19 (dk_at dksX10_rate_1 9 rfl rfl)
theorem dX10_rate_35 : decode cX10_rate 35 = .ok (.iload_n 2, 1) := dk_28 (dk_at dksX10_rate_1 11 rfl rfl)
theorem dX10_rate_36 : decode cX10_rate 36 = .ok (.iadd, 1) := dk_96 (dk_at dksX10_rate_1 12 rfl rfl)
theorem dX10_rate_37 : decode cX10_rate 37 = .ok (.iaload, 1) := dk_46 (dk_at dksX10_rate_1 13 rfl rfl)
theorem dX10_rate_38 : decode cX10_rate 38 = .ok (.isub, 1) := dk_100 (dk_at dksX10_rate_1 14 rfl rfl)
theorem dX10_rate_39 : decode cX10_rate 39 = .ok (.istore_n 3, 1) := dk_62 (dk_at dksX10_rate_1 15 rfl rfl)
theorem dX10_rate_40 : decode cX10_rate 40 = .ok (.aload_n 0, 1) := dk_42 (dk_at dksX10_rate_1 16 rfl rfl)
theorem dX10_rate_41 : decode cX10_rate 41 = .ok (.dup, 1) := dk_89 (dk_at dksX10_rate_1 17 rfl rfl)
theorem dX10_rate_42 : decode cX10_rate 42 = .ok (.getfield 232, 3) := dk_180 0 232 (dk_at dksX10_rate_1 18 rfl rfl)
theorem dX10_rate_45 : decode cX10_rate 45 = .ok (.lconst 1, 1) := dk_10 (dk_at dksX10_rate_1 21 rfl rfl)
theorem dX10_rate_46 : decode cX10_rate 46 = .ok (.ladd, 1) := dk_97 (dk_at dksX10_rate_1 22 rfl rfl)
theorem dX10_rate_47 : decode cX10_rate 47 = .ok (.putfield 232, 3) := dk_181 0 232 (dk_at dksX10_rate_2 0 rfl rfl)
theorem dX10_rate_50 : decode cX10_rate 50 = .ok (.iload_n 1, 1) := dk_27 (dk_at dksX10_rate_2 3 rfl rfl)
theorem dX10_rate_51 : decode cX10_rate 51 = .ok (.tableswitch 140 1 5 #[33, 54, 74, 97, 119], 33) := by decide +kernel
theorem dX10_rate_84 : decode cX10_rate 84 = .ok (.aload_n 0, 1) := dk_42 (dk_at dksX10_rate_4 0 rfl rfl)
theorem dX10_rate_85 : decode cX10_rate 85 = .ok (.dup, 1) := dk_89 (dk_at dksX10_rate_4 1 rfl rfl)
theorem dX10_rate_86 : decode cX10_rate 86 = .ok (.getfield 232, 3) := dk_180 0 232 (dk_at dksX10_rate_4 2 rfl rfl)
theorem dX10_rate_89 : decode cX10_rate 89 = .ok (.ldc2_w 195, 3) := dk_20 0 195 (dk_at dksX10_rate_4 5 rfl rfl)
theorem dX10_rate_92 : decode cX10_rate 92 = .ok (.ladd, 1) := dk_97 (dk_at dksX10_rate_4 8 rfl rfl)
theorem dX10_rate_93 : decode cX10_rate 93 = .ok (.putfield 232, 3) := dk_181 0 232 (dk_at dksX10_rate_4 9 rfl rfl)
theorem dX10_rate_96 : decode cX10_rate 96 = .ok (.iload_n 3, 1) := dk_29 (dk_at dksX10_rate_4 12 rfl rfl)
theorem dX10_rate_97 : decode cX10_rate 97 = .ok (.aload_n 0, 1) := dk_42 (dk_at dksX10_rate_4 13 rfl rfl)
theorem dX10_rate_98 : decode cX10_rate 98 = .ok (.getfield 20, 3) := dk_180 0 20 (dk_at dksX10_rate_4 14 rfl rfl)
theorem dX10_rate_101 : decode cX10_rate 101 = .ok (.iload_n 2, 1) := dk_28 (dk_at dksX10_rate_4 17 rfl rfl)
theorem dX10_rate_102 : decode cX10_rate 102 = .ok (.iaload, 1) := dk_46 (dk_at dksX10_rate_4 18 rfl rfl)
theorem dX10_rate_103 : decode cX10_rate 103 = .ok (.iadd, 1) := dk_96 (dk_at dksX10_rate_4 19 rfl rfl)
theorem dX10_rate_104 : decode cX10_rate 104 = .ok (.ireturn, 1) := dk_172 (dk_at dksX10_rate_4 20 rfl rfl)
theorem dX10_rate_105 : decode cX10_rate 105 = .ok (.aload_n 0, 1) := dk_42 (dk_at dksX10_rate_4 21 rfl rfl)
theorem dX10_rate_106 : decode cX10_rate 106 = .ok (.dup, 1) := dk_89 (dk_at dksX10_rate_4 22 rfl rfl)
theorem dX10_rate_107 : decode cX10_rate 107 = .ok (.getfield 232, 3) := dk_180 0 232 (dk_at dksX10_rate_5 0 rfl rfl)
theorem dX10_rate_110 : decode cX10_rate 110 = .ok (.ldc2_w 236, 3) := dk_20 0 236 (dk_at dksX10_rate_5 3 rfl rfl)
theorem dX10_rate_113 : decode cX10_rate 113 = .ok (.ladd, 1) := dk_97 (dk_at dksX10_rate_5 6 rfl rfl)
theorem dX10_rate_114 : decode cX10_rate 114 = .ok (.putfield 232, 3) := dk_181 0 232 (dk_at dksX10_rate_5 7 rfl rfl)
theorem dX10_rate_117 : decode cX10_rate 117 = .ok (.iload_n 3, 1) := dk_29 (dk_at dksX10_rate_5 10 rfl rfl)
theorem dX10_rate_118 : decode cX10_rate 118 = .ok (.aload_n 0, 1) := dk_42 (dk_at dksX10_rate_5 11 rfl rfl)
theorem dX10_rate_119 : decode cX10_rate 119 = .ok (.iload_n 2, 1) := dk_28 (dk_at dksX10_rate_5 12 rfl rfl)
theorem dX10_rate_120 : decode cX10_rate 120 = .ok (.invokevirtual 228, 3) := dk_182 0 228 (dk_at dksX10_rate_5 13 rfl rfl)
theorem dX10_rate_123 : decode cX10_rate 123 = .ok (.isub, 1) := dk_100 (dk_at dksX10_rate_5 16 rfl rfl)
theorem dX10_rate_124 : decode cX10_rate 124 = .ok (.ireturn, 1) := dk_172 (dk_at dksX10_rate_5 17 rfl rfl)
theorem dX10_rate_125 : decode cX10_rate 125 = .ok (.aload_n 0, 1) := dk_42 (dk_at dksX10_rate_5 18 rfl rfl)
theorem dX10_rate_126 : decode cX10_rate 126 = .ok (.dup, 1) := dk_89 (dk_at dksX10_rate_5 19 rfl rfl)
theorem dX10_rate_127 : decode cX10_rate 127 = .ok (.getfield 232, 3) := dk_180 0 232 (dk_at dksX10_rate_5 20 rfl rfl)
theorem dX10_rate_130 : decode cX10_rate 130 = .ok (.ldc2_w 238, 3) := dk_20 0 238 (dk_at dksX10_rate_6 0 rfl rfl)
theorem dX10_rate_133 : decode cX10_rate 133 = .ok (.ladd, 1) := dk_97 (dk_at dksX10_rate_6 3 rfl rfl)
theorem dX10_rate_134 : decode cX10_rate 134 = .ok (.putfield 232, 3) := dk_181 0 232 (dk_at dksX10_rate_6 4 rfl rfl)
theorem dX10_rate_137 : decode cX10_rate 137 = .ok (.iconst 2, 1) := dk_5 (dk_at dksX10_rate_6 7 rfl rfl)
theorem dX10_rate_138 : decode cX10_rate 138 = .ok (.iload_n 3, 1) := dk_29 (dk_at dksX10_rate_6 8 rfl rfl)
theorem dX10_rate_139 : decode cX10_rate 139 = .ok (.aload_n 0, 1) := dk_42 (dk_at dksX10_rate_6 9 rfl rfl)
theorem dX10_rate_140 : decode cX10_rate 140 = .ok (.getfield 20, 3) := dk_180 0 20 (dk_at dksX10_rate_6 10 rfl rfl)
theorem dX10_rate_143 : decode cX10_rate 143 = .ok (.iload_n 2, 1) := dk_28 (dk_at dksX10_rate_6 13 rfl rfl)
theorem dX10_rate_144 : decode cX10_rate 144 = .ok (.iaload, 1) := dk_46 (dk_at dksX10_rate_6 14 rfl rfl)
theorem dX10_rate_145 : decode cX10_rate 145 = .ok (.iadd, 1) := dk_96 (dk_at dksX10_rate_6 15 rfl rfl)
theorem dX10_rate_146 : decode cX10_rate 146 = .ok (.imul, 1) := dk_104 (dk_at dksX10_rate_6 16 rfl rfl)
theorem dX10_rate_147 : decode cX10_rate 147 = .ok (.ireturn, 1) := dk_172 (dk_at dksX10_rate_6 17 rfl rfl)
theorem dX10_rate_148 : decode cX10_rate 148 = .ok (.aload_n 0, 1) := dk_42 (dk_at dksX10_rate_6 18 rfl rfl)
theorem dX10_rate_149 : decode cX10_rate 149 = .ok (.dup, 1) := dk_89 (dk_at dksX10_rate_6 19 rfl rfl)
theorem dX10_rate_150 : decode cX10_rate 150 = .ok (.getfield 232, 3) := dk_180 0 232 (dk_at dksX10_rate_6 20 rfl rfl)
theorem dX10_rate_153 : decode cX10_rate 153 = .ok (.ldc2_w 240, 3) := dk_20 0 240 (dk_at dksX10_rate_7 0 rfl rfl)
theorem dX10_rate_156 : decode cX10_rate 156 = .ok (.ladd, 1) := dk_97 (dk_at dksX10_rate_7 3 rfl rfl)
theorem dX10_rate_157 : decode cX10_rate 157 = .ok (.putfield 232, 3) := dk_181 0 232 (dk_at dksX10_rate_7 4 rfl rfl)
theorem dX10_rate_160 : decode cX10_rate 160 = .ok (.iload_n 3, 1) := dk_29 (dk_at dksX10_rate_7 7 rfl rfl)
theorem dX10_rate_161 : decode cX10_rate 161 = .ok (.aload_n 0, 1) := dk_42 (dk_at dksX10_rate_7 8 rfl rfl)
theorem dX10_rate_162 : decode cX10_rate 162 = .ok (.iload_n 2, 1) := dk_28 (dk_at dksX10_rate_7 9 rfl rfl)
theorem dX10_rate_163 : decode cX10_rate 163 = .ok (.invokevirtual 228, 3) := dk_182 0 228 (dk_at dksX10_rate_7 10 rfl rfl)
theorem dX10_rate_166 : decode cX10_rate 166 = .ok (.isub, 1) := dk_100 (dk_at dksX10_rate_7 13 rfl rfl)
theorem dX10_rate_167 : decode cX10_rate 167 = .ok (.iload_n 2, 1) := dk_28 (dk_at dksX10_rate_7 14 rfl rfl)
theorem dX10_rate_168 : decode cX10_rate 168 = .ok (.iadd, 1) := dk_96 (dk_at dksX10_rate_7 15 rfl rfl)
theorem dX10_rate_169 : decode cX10_rate 169 = .ok (.ireturn, 1) := dk_172 (dk_at dksX10_rate_7 16 rfl rfl)
theorem dX10_rate_170 : decode cX10_rate 170 = .ok (.aload_n 0, 1) := dk_42 (dk_at dksX10_rate_7 17 rfl rfl)
theorem dX10_rate_171 : decode cX10_rate 171 = .ok (.dup, 1) := dk_89 (dk_at dksX10_rate_7 18 rfl rfl)
theorem dX10_rate_172 : decode cX10_rate 172 = .ok (.getfield 232, 3) := dk_180 0 232 (dk_at dksX10_rate_7 19 rfl rfl)
theorem dX10_rate_175 : decode cX10_rate 175 = .ok (.ldc2_w 242, 3) := dk_20 0 242 (dk_at dksX10_rate_8 0 rfl rfl)
theorem dX10_rate_178 : decode cX10_rate 178 = .ok (.ladd, 1) := dk_97 (dk_at dksX10_rate_8 3 rfl rfl)
theorem dX10_rate_179 : decode cX10_rate 179 = .ok (.putfield 232, 3) := dk_181 0 232 (dk_at dksX10_rate_8 4 rfl rfl)
theorem dX10_rate_182 : decode cX10_rate 182 = .ok (.iload_n 3, 1) := dk_29 (dk_at dksX10_rate_8 7 rfl rfl)
theorem dX10_rate_183 : decode cX10_rate 183 = .ok (.aload_n 0, 1) := dk_42 (dk_at dksX10_rate_8 8 rfl rfl)
theorem dX10_rate_184 : decode cX10_rate 184 = .ok (.getfield 7, 3) := dk_180 0 7 (dk_at dksX10_rate_8 9 rfl rfl)
theorem dX10_rate_187 : decode cX10_rate 187 = .ok (.iconst 0, 1) := dk_3 (dk_at dksX10_rate_8 12 rfl rfl)
theorem dX10_rate_188 : decode cX10_rate 188 = .ok (.iaload, 1) := dk_46 (dk_at dksX10_rate_8 13 rfl rfl)
theorem dX10_rate_189 : decode cX10_rate 189 = .ok (.iadd, 1) := dk_96 (dk_at dksX10_rate_8 14 rfl rfl)
theorem dX10_rate_190 : decode cX10_rate 190 = .ok (.ireturn, 1) := dk_172 (dk_at dksX10_rate_8 15 rfl rfl)
theorem dX10_rate_191 : decode cX10_rate 191 = .ok (.iload_n 3, 1) := dk_29 (dk_at dksX10_rate_8 16 rfl rfl)
theorem dX10_rate_192 : decode cX10_rate 192 = .ok (.ireturn, 1) := dk_172 (dk_at dksX10_rate_8 17 rfl rfl)
abbrev cX10_keep : ByteArray := prog_14_method_54_code
def yX10_keep : MethodName := ⟨RX10, "keep", "(I)I"⟩
def dkwX10_keep_1 : List UInt8 := [180, 0, 13, 27, 4, 84, 42, 180, 0, 7, 3, 46, 172]
abbrev dktX10_keep_1 : List UInt8 := dkwX10_keep_1 ++ []
def dkwX10_keep_0 : List UInt8 := [27, 133, 9, 10, 184, 0, 67, 154, 0, 5, 2, 172, 42, 3, 16, 100, 4, 27, 96, 104, 182, 0, 244, 42]
abbrev dktX10_keep_0 : List UInt8 := dkwX10_keep_0 ++ dktX10_keep_1
theorem dksX10_keep_0 : cX10_keep.data.toList.drop 0 = dktX10_keep_0 := by decide +kernel
theorem dksX10_keep_1 : cX10_keep.data.toList.drop 24 = dktX10_keep_1 := dk_seg dksX10_keep_0 24 rfl rfl
theorem dX10_keep_0 : decode cX10_keep 0 = .ok (.iload_n 1, 1) := dk_27 (dk_at dksX10_keep_0 0 rfl rfl)
theorem dX10_keep_1 : decode cX10_keep 1 = .ok (.i2l, 1) := dk_133 (dk_at dksX10_keep_0 1 rfl rfl)
theorem dX10_keep_2 : decode cX10_keep 2 = .ok (.lconst 0, 1) := dk_9 (dk_at dksX10_keep_0 2 rfl rfl)
theorem dX10_keep_3 : decode cX10_keep 3 = .ok (.lconst 1, 1) := dk_10 (dk_at dksX10_keep_0 3 rfl rfl)
theorem dX10_keep_4 : decode cX10_keep 4 = .ok (.invokestatic 67, 3) := dk_184 0 67 (dk_at dksX10_keep_0 4 rfl rfl)
theorem dX10_keep_7 : decode cX10_keep 7 = .ok (.ifCond .ne 5, 3) := dk_154 0 5 (dk_at dksX10_keep_0 7 rfl rfl)
theorem dX10_keep_10 : decode cX10_keep 10 = .ok (.iconst (-1), 1) := dk_2 (dk_at dksX10_keep_0 10 rfl rfl)
theorem dX10_keep_11 : decode cX10_keep 11 = .ok (.ireturn, 1) := dk_172 (dk_at dksX10_keep_0 11 rfl rfl)
theorem dX10_keep_12 : decode cX10_keep 12 = .ok (.aload_n 0, 1) := dk_42 (dk_at dksX10_keep_0 12 rfl rfl)
theorem dX10_keep_13 : decode cX10_keep 13 = .ok (.iconst 0, 1) := dk_3 (dk_at dksX10_keep_0 13 rfl rfl)
theorem dX10_keep_14 : decode cX10_keep 14 = .ok (.bipush 100, 2) := dk_16 100 (dk_at dksX10_keep_0 14 rfl rfl)
theorem dX10_keep_16 : decode cX10_keep 16 = .ok (.iconst 1, 1) := dk_4 (dk_at dksX10_keep_0 16 rfl rfl)
theorem dX10_keep_17 : decode cX10_keep 17 = .ok (.iload_n 1, 1) := dk_27 (dk_at dksX10_keep_0 17 rfl rfl)
theorem dX10_keep_18 : decode cX10_keep 18 = .ok (.iadd, 1) := dk_96 (dk_at dksX10_keep_0 18 rfl rfl)
theorem dX10_keep_19 : decode cX10_keep 19 = .ok (.imul, 1) := dk_104 (dk_at dksX10_keep_0 19 rfl rfl)
theorem dX10_keep_20 : decode cX10_keep 20 = .ok (.invokevirtual 244, 3) := dk_182 0 244 (dk_at dksX10_keep_0 20 rfl rfl)
theorem dX10_keep_23 : decode cX10_keep 23 = .ok (.aload_n 0, 1) := dk_42 (dk_at dksX10_keep_0 23 rfl rfl)
theorem dX10_keep_24 : decode cX10_keep 24 = .ok (.getfield 13, 3) := dk_180 0 13 (dk_at dksX10_keep_1 0 rfl rfl)
theorem dX10_keep_27 : decode cX10_keep 27 = .ok (.iload_n 1, 1) := dk_27 (dk_at dksX10_keep_1 3 rfl rfl)
theorem dX10_keep_28 : decode cX10_keep 28 = .ok (.iconst 1, 1) := dk_4 (dk_at dksX10_keep_1 4 rfl rfl)
theorem dX10_keep_29 : decode cX10_keep 29 = .ok (.bastore, 1) := dk_84 (dk_at dksX10_keep_1 5 rfl rfl)
theorem dX10_keep_30 : decode cX10_keep 30 = .ok (.aload_n 0, 1) := dk_42 (dk_at dksX10_keep_1 6 rfl rfl)
theorem dX10_keep_31 : decode cX10_keep 31 = .ok (.getfield 7, 3) := dk_180 0 7 (dk_at dksX10_keep_1 7 rfl rfl)
theorem dX10_keep_34 : decode cX10_keep 34 = .ok (.iconst 0, 1) := dk_3 (dk_at dksX10_keep_1 10 rfl rfl)
theorem dX10_keep_35 : decode cX10_keep 35 = .ok (.iaload, 1) := dk_46 (dk_at dksX10_keep_1 11 rfl rfl)
theorem dX10_keep_36 : decode cX10_keep 36 = .ok (.ireturn, 1) := dk_172 (dk_at dksX10_keep_1 12 rfl rfl)
abbrev cX10_copy : ByteArray := prog_14_method_53_code
def yX10_copy : MethodName := ⟨RX10, "copy", "(II)V"⟩
def dkwX10_copy_1 : List UInt8 := [132, 3, 1, 167, 255, 231, 177]
abbrev dktX10_copy_1 : List UInt8 := dkwX10_copy_1 ++ []
def dkwX10_copy_0 : List UInt8 := [3, 62, 29, 16, 100, 162, 0, 25, 42, 180, 0, 7, 28, 29, 96, 42, 180, 0, 7, 27, 29, 96, 46, 79]
abbrev dktX10_copy_0 : List UInt8 := dkwX10_copy_0 ++ dktX10_copy_1
theorem dksX10_copy_0 : cX10_copy.data.toList.drop 0 = dktX10_copy_0 := by decide +kernel
theorem dksX10_copy_1 : cX10_copy.data.toList.drop 24 = dktX10_copy_1 := dk_seg dksX10_copy_0 24 rfl rfl
theorem dX10_copy_0 : decode cX10_copy 0 = .ok (.iconst 0, 1) := dk_3 (dk_at dksX10_copy_0 0 rfl rfl)
theorem dX10_copy_1 : decode cX10_copy 1 = .ok (.istore_n 3, 1) := dk_62 (dk_at dksX10_copy_0 1 rfl rfl)
theorem dX10_copy_2 : decode cX10_copy 2 = .ok (.iload_n 3, 1) := dk_29 (dk_at dksX10_copy_0 2 rfl rfl)
theorem dX10_copy_3 : decode cX10_copy 3 = .ok (.bipush 100, 2) := dk_16 100 (dk_at dksX10_copy_0 3 rfl rfl)
theorem dX10_copy_5 : decode cX10_copy 5 = .ok (.if_icmp .ge 25, 3) := dk_162 0 25 (dk_at dksX10_copy_0 5 rfl rfl)
theorem dX10_copy_8 : decode cX10_copy 8 = .ok (.aload_n 0, 1) := dk_42 (dk_at dksX10_copy_0 8 rfl rfl)
theorem dX10_copy_9 : decode cX10_copy 9 = .ok (.getfield 7, 3) := dk_180 0 7 (dk_at dksX10_copy_0 9 rfl rfl)
theorem dX10_copy_12 : decode cX10_copy 12 = .ok (.iload_n 2, 1) := dk_28 (dk_at dksX10_copy_0 12 rfl rfl)
theorem dX10_copy_13 : decode cX10_copy 13 = .ok (.iload_n 3, 1) := dk_29 (dk_at dksX10_copy_0 13 rfl rfl)
theorem dX10_copy_14 : decode cX10_copy 14 = .ok (.iadd, 1) := dk_96 (dk_at dksX10_copy_0 14 rfl rfl)
theorem dX10_copy_15 : decode cX10_copy 15 = .ok (.aload_n 0, 1) := dk_42 (dk_at dksX10_copy_0 15 rfl rfl)
theorem dX10_copy_16 : decode cX10_copy 16 = .ok (.getfield 7, 3) := dk_180 0 7 (dk_at dksX10_copy_0 16 rfl rfl)
theorem dX10_copy_19 : decode cX10_copy 19 = .ok (.iload_n 1, 1) := dk_27 (dk_at dksX10_copy_0 19 rfl rfl)
theorem dX10_copy_20 : decode cX10_copy 20 = .ok (.iload_n 3, 1) := dk_29 (dk_at dksX10_copy_0 20 rfl rfl)
theorem dX10_copy_21 : decode cX10_copy 21 = .ok (.iadd, 1) := dk_96 (dk_at dksX10_copy_0 21 rfl rfl)
theorem dX10_copy_22 : decode cX10_copy 22 = .ok (.iaload, 1) := dk_46 (dk_at dksX10_copy_0 22 rfl rfl)
theorem dX10_copy_23 : decode cX10_copy 23 = .ok (.iastore, 1) := dk_79 (dk_at dksX10_copy_0 23 rfl rfl)
theorem dX10_copy_24 : decode cX10_copy 24 = .ok (.iinc 3 1, 3) := dk_132 3 1 (dk_at dksX10_copy_1 0 rfl rfl)
theorem dX10_copy_27 : decode cX10_copy 27 = .ok (.goto (-25), 3) := dk_167 255 231 (dk_at dksX10_copy_1 3 rfl rfl)
theorem dX10_copy_30 : decode cX10_copy 30 = .ok (.return_, 1) := dk_177 (dk_at dksX10_copy_1 6 rfl rfl)
abbrev cX10_back : ByteArray := prog_14_method_55_code
def yX10_back : MethodName := ⟨RX10, "back", "(I)I"⟩
def dkwX10_back_1 : List UInt8 := [42, 16, 100, 4, 27, 96, 104, 3, 182, 0, 244, 42, 180, 0, 7, 3, 46, 172]
abbrev dktX10_back_1 : List UInt8 := dkwX10_back_1 ++ []
def dkwX10_back_0 : List UInt8 := [27, 133, 9, 10, 184, 0, 67, 154, 0, 5, 2, 172, 42, 180, 0, 13, 27, 51, 154, 0, 6, 16, 254, 172]
abbrev dktX10_back_0 : List UInt8 := dkwX10_back_0 ++ dktX10_back_1
theorem dksX10_back_0 : cX10_back.data.toList.drop 0 = dktX10_back_0 := by decide +kernel
theorem dksX10_back_1 : cX10_back.data.toList.drop 24 = dktX10_back_1 := dk_seg dksX10_back_0 24 rfl rfl
theorem dX10_back_0 : decode cX10_back 0 = .ok (.iload_n 1, 1) := dk_27 (dk_at dksX10_back_0 0 rfl rfl)
theorem dX10_back_1 : decode cX10_back 1 = .ok (.i2l, 1) := dk_133 (dk_at dksX10_back_0 1 rfl rfl)
theorem dX10_back_2 : decode cX10_back 2 = .ok (.lconst 0, 1) := dk_9 (dk_at dksX10_back_0 2 rfl rfl)
theorem dX10_back_3 : decode cX10_back 3 = .ok (.lconst 1, 1) := dk_10 (dk_at dksX10_back_0 3 rfl rfl)
theorem dX10_back_4 : decode cX10_back 4 = .ok (.invokestatic 67, 3) := dk_184 0 67 (dk_at dksX10_back_0 4 rfl rfl)
theorem dX10_back_7 : decode cX10_back 7 = .ok (.ifCond .ne 5, 3) := dk_154 0 5 (dk_at dksX10_back_0 7 rfl rfl)
theorem dX10_back_10 : decode cX10_back 10 = .ok (.iconst (-1), 1) := dk_2 (dk_at dksX10_back_0 10 rfl rfl)
theorem dX10_back_11 : decode cX10_back 11 = .ok (.ireturn, 1) := dk_172 (dk_at dksX10_back_0 11 rfl rfl)
theorem dX10_back_12 : decode cX10_back 12 = .ok (.aload_n 0, 1) := dk_42 (dk_at dksX10_back_0 12 rfl rfl)
theorem dX10_back_13 : decode cX10_back 13 = .ok (.getfield 13, 3) := dk_180 0 13 (dk_at dksX10_back_0 13 rfl rfl)
theorem dX10_back_16 : decode cX10_back 16 = .ok (.iload_n 1, 1) := dk_27 (dk_at dksX10_back_0 16 rfl rfl)
theorem dX10_back_17 : decode cX10_back 17 = .ok (.baload, 1) := dk_51 (dk_at dksX10_back_0 17 rfl rfl)
theorem dX10_back_18 : decode cX10_back 18 = .ok (.ifCond .ne 6, 3) := dk_154 0 6 (dk_at dksX10_back_0 18 rfl rfl)
theorem dX10_back_21 : decode cX10_back 21 = .ok (.bipush (-2), 2) := dk_16 254 (dk_at dksX10_back_0 21 rfl rfl)
theorem dX10_back_23 : decode cX10_back 23 = .ok (.ireturn, 1) := dk_172 (dk_at dksX10_back_0 23 rfl rfl)
theorem dX10_back_24 : decode cX10_back 24 = .ok (.aload_n 0, 1) := dk_42 (dk_at dksX10_back_1 0 rfl rfl)
theorem dX10_back_25 : decode cX10_back 25 = .ok (.bipush 100, 2) := dk_16 100 (dk_at dksX10_back_1 1 rfl rfl)
theorem dX10_back_27 : decode cX10_back 27 = .ok (.iconst 1, 1) := dk_4 (dk_at dksX10_back_1 3 rfl rfl)
theorem dX10_back_28 : decode cX10_back 28 = .ok (.iload_n 1, 1) := dk_27 (dk_at dksX10_back_1 4 rfl rfl)
theorem dX10_back_29 : decode cX10_back 29 = .ok (.iadd, 1) := dk_96 (dk_at dksX10_back_1 5 rfl rfl)
theorem dX10_back_30 : decode cX10_back 30 = .ok (.imul, 1) := dk_104 (dk_at dksX10_back_1 6 rfl rfl)
theorem dX10_back_31 : decode cX10_back 31 = .ok (.iconst 0, 1) := dk_3 (dk_at dksX10_back_1 7 rfl rfl)
theorem dX10_back_32 : decode cX10_back 32 = .ok (.invokevirtual 244, 3) := dk_182 0 244 (dk_at dksX10_back_1 8 rfl rfl)
theorem dX10_back_35 : decode cX10_back 35 = .ok (.aload_n 0, 1) := dk_42 (dk_at dksX10_back_1 11 rfl rfl)
theorem dX10_back_36 : decode cX10_back 36 = .ok (.getfield 7, 3) := dk_180 0 7 (dk_at dksX10_back_1 12 rfl rfl)
theorem dX10_back_39 : decode cX10_back 39 = .ok (.iconst 0, 1) := dk_3 (dk_at dksX10_back_1 15 rfl rfl)
theorem dX10_back_40 : decode cX10_back 40 = .ok (.iaload, 1) := dk_46 (dk_at dksX10_back_1 16 rfl rfl)
theorem dX10_back_41 : decode cX10_back 41 = .ok (.ireturn, 1) := dk_172 (dk_at dksX10_back_1 17 rfl rfl)
abbrev cX10_count : ByteArray := prog_14_method_56_code
def yX10_count : MethodName := ⟨RX10, "count", "(I)I"⟩
def dkwX10_count_3 : List UInt8 := [172, 2, 172]
abbrev dktX10_count_3 : List UInt8 := dkwX10_count_3 ++ []
def dkwX10_count_2 : List UInt8 := [42, 180, 0, 63, 172, 42, 180, 0, 71, 172, 42, 180, 0, 133, 172, 42, 182, 0, 199, 172, 42, 180, 0, 76]
abbrev dktX10_count_2 : List UInt8 := dkwX10_count_2 ++ dktX10_count_3
def dkwX10_count_1 : List UInt8 := [170, 0, 0, 0, 0, 0, 60, 0, 0, 0, 0, 0, 0, 0, 4, 0, 0, 0, 35, 0, 0, 0, 40, 0, 0, 0, 45, 0, 0, 0, 50, 0, 0, 0, 55]
abbrev dktX10_count_1 : List UInt8 := dkwX10_count_1 ++ dktX10_count_2
def dkwX10_count_0 : List UInt8 := [27]
abbrev dktX10_count_0 : List UInt8 := dkwX10_count_0 ++ dktX10_count_1
theorem dksX10_count_0 : cX10_count.data.toList.drop 0 = dktX10_count_0 := by decide +kernel
theorem dksX10_count_1 : cX10_count.data.toList.drop 1 = dktX10_count_1 := dk_seg dksX10_count_0 1 rfl rfl
theorem dksX10_count_2 : cX10_count.data.toList.drop 36 = dktX10_count_2 := dk_seg dksX10_count_1 35 rfl rfl
theorem dksX10_count_3 : cX10_count.data.toList.drop 60 = dktX10_count_3 := dk_seg dksX10_count_2 24 rfl rfl
theorem dX10_count_0 : decode cX10_count 0 = .ok (.iload_n 1, 1) := dk_27 (dk_at dksX10_count_0 0 rfl rfl)
theorem dX10_count_1 : decode cX10_count 1 = .ok (.tableswitch 60 0 4 #[35, 40, 45, 50, 55], 35) := by decide +kernel
theorem dX10_count_36 : decode cX10_count 36 = .ok (.aload_n 0, 1) := dk_42 (dk_at dksX10_count_2 0 rfl rfl)
theorem dX10_count_37 : decode cX10_count 37 = .ok (.getfield 63, 3) := dk_180 0 63 (dk_at dksX10_count_2 1 rfl rfl)
theorem dX10_count_40 : decode cX10_count 40 = .ok (.ireturn, 1) := dk_172 (dk_at dksX10_count_2 4 rfl rfl)
theorem dX10_count_41 : decode cX10_count 41 = .ok (.aload_n 0, 1) := dk_42 (dk_at dksX10_count_2 5 rfl rfl)
theorem dX10_count_42 : decode cX10_count 42 = .ok (.getfield 71, 3) := dk_180 0 71 (dk_at dksX10_count_2 6 rfl rfl)
theorem dX10_count_45 : decode cX10_count 45 = .ok (.ireturn, 1) := dk_172 (dk_at dksX10_count_2 9 rfl rfl)
theorem dX10_count_46 : decode cX10_count 46 = .ok (.aload_n 0, 1) := dk_42 (dk_at dksX10_count_2 10 rfl rfl)
theorem dX10_count_47 : decode cX10_count 47 = .ok (.getfield 133, 3) := dk_180 0 133 (dk_at dksX10_count_2 11 rfl rfl)
theorem dX10_count_50 : decode cX10_count 50 = .ok (.ireturn, 1) := dk_172 (dk_at dksX10_count_2 14 rfl rfl)
theorem dX10_count_51 : decode cX10_count 51 = .ok (.aload_n 0, 1) := dk_42 (dk_at dksX10_count_2 15 rfl rfl)
theorem dX10_count_52 : decode cX10_count 52 = .ok (.invokevirtual 199, 3) := dk_182 0 199 (dk_at dksX10_count_2 16 rfl rfl)
theorem dX10_count_55 : decode cX10_count 55 = .ok (.ireturn, 1) := dk_172 (dk_at dksX10_count_2 19 rfl rfl)
theorem dX10_count_56 : decode cX10_count 56 = .ok (.aload_n 0, 1) := dk_42 (dk_at dksX10_count_2 20 rfl rfl)
theorem dX10_count_57 : decode cX10_count 57 = .ok (.getfield 76, 3) := dk_180 0 76 (dk_at dksX10_count_2 21 rfl rfl)
theorem dX10_count_60 : decode cX10_count 60 = .ok (.ireturn, 1) := dk_172 (dk_at dksX10_count_3 0 rfl rfl)
theorem dX10_count_61 : decode cX10_count 61 = .ok (.iconst (-1), 1) := dk_2 (dk_at dksX10_count_3 1 rfl rfl)
theorem dX10_count_62 : decode cX10_count 62 = .ok (.ireturn, 1) := dk_172 (dk_at dksX10_count_3 2 rfl rfl)
abbrev cX10_trace : ByteArray := prog_14_method_57_code
def yX10_trace : MethodName := ⟨RX10, "trace", "()J"⟩
theorem dX10_trace_0 : decode cX10_trace 0 = .ok (.aload_n 0, 1) := by decide +kernel
theorem dX10_trace_1 : decode cX10_trace 1 = .ok (.getfield 232, 3) := by decide +kernel
theorem dX10_trace_4 : decode cX10_trace 4 = .ok (.lreturn, 1) := by decide +kernel
theorem q59 : (Jvm.Cond.initialized "SleeveSlipsModel") ∈ lw_all := lw_g (lw_at lw_m1 12 rfl) rfl
theorem q801 : (Jvm.Cond.instantiable "SleeveSlipsModel" (28 : Nat)) ∈ lw_all := lw_g (lw_at lw_m4 34 rfl) rfl
theorem q803 : (Jvm.Cond.instanceMethod ({ cls := "SleeveSlipsModel", name := "<init>", desc := "()V" } : Jvm.MethodName)) ∈ lw_all := lw_g (lw_at lw_m4 36 rfl) rfl
theorem q804 : (Jvm.Cond.code ({ cls := "SleeveSlipsModel", name := "<init>", desc := "()V" } : Jvm.MethodName) prog_14_method_1_code (1 : Nat) (Option.none : Option Jvm.ClassFile.FieldType)) ∈ lw_all := lw_g (lw_at lw_m4 37 rfl) rfl
theorem q805 : (Jvm.Cond.methodLink "SleeveSlipsModel" (1 : Nat) ({ cls := "java/lang/Object", name := "<init>", desc := "()V" } : Jvm.MethodName)) ∈ lw_all := lw_g (lw_at lw_m4 38 rfl) rfl
theorem q806 : (Jvm.Cond.fieldLink "SleeveSlipsModel" (7 : Nat) "SleeveSlipsModel" "w" "[I") ∈ lw_all := lw_g (lw_at lw_m4 39 rfl) rfl
theorem q807 : (Jvm.Cond.fieldLink "SleeveSlipsModel" (13 : Nat) "SleeveSlipsModel" "isKept" "[Z") ∈ lw_all := lw_g (lw_at lw_m4 40 rfl) rfl
theorem q808 : (Jvm.Cond.fieldLink "SleeveSlipsModel" (63 : Nat) "SleeveSlipsModel" "people" "I") ∈ lw_all := lw_g (lw_at lw_m4 41 rfl) rfl
theorem q809 : (Jvm.Cond.fieldLink "SleeveSlipsModel" (17 : Nat) "SleeveSlipsModel" "room" "[I") ∈ lw_all := lw_g (lw_at lw_m4 42 rfl) rfl
theorem q810 : (Jvm.Cond.fieldLink "SleeveSlipsModel" (20 : Nat) "SleeveSlipsModel" "work" "[I") ∈ lw_all := lw_g (lw_at lw_m4 43 rfl) rfl
theorem q811 : (Jvm.Cond.fieldLink "SleeveSlipsModel" (23 : Nat) "SleeveSlipsModel" "price" "[I") ∈ lw_all := lw_g (lw_at lw_m4 44 rfl) rfl
theorem q812 : (Jvm.Cond.fieldLink "SleeveSlipsModel" (71 : Nat) "SleeveSlipsModel" "askings" "I") ∈ lw_all := lw_g (lw_at lw_m4 45 rfl) rfl
theorem q813 : (Jvm.Cond.fieldLink "SleeveSlipsModel" (26 : Nat) "SleeveSlipsModel" "asked" "[I") ∈ lw_all := lw_g (lw_at lw_m4 46 rfl) rfl
theorem q814 : (Jvm.Cond.fieldLink "SleeveSlipsModel" (133 : Nat) "SleeveSlipsModel" "hangs" "I") ∈ lw_all := lw_g (lw_at lw_m4 47 rfl) rfl
theorem q815 : (Jvm.Cond.fieldLink "SleeveSlipsModel" (29 : Nat) "SleeveSlipsModel" "hung" "[I") ∈ lw_all := lw_g (lw_at lw_m4 48 rfl) rfl
theorem q816 : (Jvm.Cond.fieldLink "SleeveSlipsModel" (32 : Nat) "SleeveSlipsModel" "tenths" "[I") ∈ lw_all := lw_g (lw_at lw_m4 49 rfl) rfl
theorem q817 : (Jvm.Cond.fieldLink "SleeveSlipsModel" (35 : Nat) "SleeveSlipsModel" "sortWorth" "[I") ∈ lw_all := lw_g (lw_at lw_m4 50 rfl) rfl
theorem q818 : (Jvm.Cond.fieldLink "SleeveSlipsModel" (38 : Nat) "SleeveSlipsModel" "sortDays" "[I") ∈ lw_all := lw_g (lw_at lw_m4 51 rfl) rfl
theorem q819 : (Jvm.Cond.fieldLink "SleeveSlipsModel" (202 : Nat) "SleeveSlipsModel" "sorts" "I") ∈ lw_all := lw_g (lw_at lw_m4 52 rfl) rfl
theorem q820 : (Jvm.Cond.fieldLink "SleeveSlipsModel" (41 : Nat) "SleeveSlipsModel" "text" "[I") ∈ lw_all := lw_g (lw_at lw_m4 53 rfl) rfl
theorem q821 : (Jvm.Cond.fieldLink "SleeveSlipsModel" (76 : Nat) "SleeveSlipsModel" "texted" "I") ∈ lw_all := lw_g (lw_at lw_m4 54 rfl) rfl
theorem q822 : (Jvm.Cond.fieldLink "SleeveSlipsModel" (232 : Nat) "SleeveSlipsModel" "trace" "J") ∈ lw_all := lw_g (lw_at lw_m4 55 rfl) rfl
theorem q823 : (Jvm.Cond.fieldLink "SleeveSlipsModel" (81 : Nat) "SleeveSlipsModel" "at" "I") ∈ lw_all := lw_g (lw_at lw_m4 56 rfl) rfl
theorem q824 : (Jvm.Cond.fieldLink "SleeveSlipsModel" (84 : Nat) "SleeveSlipsModel" "fault" "I") ∈ lw_all := lw_g (lw_at lw_m4 57 rfl) rfl
theorem q825 : (Jvm.Cond.fieldLink "SleeveSlipsModel" (113 : Nat) "SleeveSlipsModel" "readPeople" "I") ∈ lw_all := lw_g (lw_at lw_m4 58 rfl) rfl
theorem q826 : (Jvm.Cond.fieldLink "SleeveSlipsModel" (44 : Nat) "SleeveSlipsModel" "readPerson" "[I") ∈ lw_all := lw_g (lw_at lw_m4 59 rfl) rfl
theorem q827 : (Jvm.Cond.fieldLink "SleeveSlipsModel" (122 : Nat) "SleeveSlipsModel" "readAskings" "I") ∈ lw_all := lw_g (lw_at lw_m4 60 rfl) rfl
theorem q828 : (Jvm.Cond.fieldLink "SleeveSlipsModel" (47 : Nat) "SleeveSlipsModel" "readAsked" "[I") ∈ lw_all := lw_g (lw_at lw_m4 61 rfl) rfl
theorem q829 : (Jvm.Cond.fieldLink "SleeveSlipsModel" (127 : Nat) "SleeveSlipsModel" "readHangs" "I") ∈ lw_all := lw_g (lw_at lw_m4 62 rfl) rfl
theorem q830 : (Jvm.Cond.fieldLink "SleeveSlipsModel" (50 : Nat) "SleeveSlipsModel" "readHung" "[I") ∈ lw_all := lw_g (lw_at lw_m4 63 rfl) rfl
theorem q831 : (Jvm.Cond.fieldLink "SleeveSlipsModel" (53 : Nat) "SleeveSlipsModel" "rest" "[I") ∈ lw_all := lw_g (lw_at lw_m4 64 rfl) rfl
theorem q832 : (Jvm.Cond.fieldLink "SleeveSlipsModel" (56 : Nat) "SleeveSlipsModel" "brings" "[J") ∈ lw_all := lw_g (lw_at lw_m4 65 rfl) rfl
theorem q833 : (Jvm.Cond.fieldLink "SleeveSlipsModel" (60 : Nat) "SleeveSlipsModel" "later" "[J") ∈ lw_all := lw_g (lw_at lw_m4 66 rfl) rfl
theorem q834 : (Jvm.Cond.laysFinal "SleeveSlipsModel" "SleeveSlipsModel" "w" "[I") ∈ lw_all := lw_g (lw_at lw_m4 67 rfl) rfl
theorem q835 : (Jvm.Cond.soleField "SleeveSlipsModel" "w") ∈ lw_all := lw_g (lw_at lw_m4 68 rfl) rfl
theorem q836 : (Jvm.Cond.laysFinal "SleeveSlipsModel" "SleeveSlipsModel" "isKept" "[Z") ∈ lw_all := lw_g (lw_at lw_m4 69 rfl) rfl
theorem q837 : (Jvm.Cond.soleField "SleeveSlipsModel" "isKept") ∈ lw_all := lw_g (lw_at lw_m4 70 rfl) rfl
theorem q838 : (Jvm.Cond.lays "SleeveSlipsModel" "SleeveSlipsModel" "people" "I") ∈ lw_all := lw_g (lw_at lw_m4 71 rfl) rfl
theorem q839 : (Jvm.Cond.soleField "SleeveSlipsModel" "people") ∈ lw_all := lw_g (lw_at lw_m4 72 rfl) rfl
theorem q840 : (Jvm.Cond.laysFinal "SleeveSlipsModel" "SleeveSlipsModel" "room" "[I") ∈ lw_all := lw_g (lw_at lw_m4 73 rfl) rfl
theorem q841 : (Jvm.Cond.soleField "SleeveSlipsModel" "room") ∈ lw_all := lw_g (lw_at lw_m4 74 rfl) rfl
theorem q842 : (Jvm.Cond.laysFinal "SleeveSlipsModel" "SleeveSlipsModel" "work" "[I") ∈ lw_all := lw_g (lw_at lw_m4 75 rfl) rfl
theorem q843 : (Jvm.Cond.soleField "SleeveSlipsModel" "work") ∈ lw_all := lw_g (lw_at lw_m4 76 rfl) rfl
theorem q844 : (Jvm.Cond.laysFinal "SleeveSlipsModel" "SleeveSlipsModel" "price" "[I") ∈ lw_all := lw_g (lw_at lw_m4 77 rfl) rfl
theorem q845 : (Jvm.Cond.soleField "SleeveSlipsModel" "price") ∈ lw_all := lw_g (lw_at lw_m4 78 rfl) rfl
theorem q846 : (Jvm.Cond.lays "SleeveSlipsModel" "SleeveSlipsModel" "askings" "I") ∈ lw_all := lw_g (lw_at lw_m4 79 rfl) rfl
theorem q847 : (Jvm.Cond.soleField "SleeveSlipsModel" "askings") ∈ lw_all := lw_g (lw_at lw_m4 80 rfl) rfl
theorem q848 : (Jvm.Cond.laysFinal "SleeveSlipsModel" "SleeveSlipsModel" "asked" "[I") ∈ lw_all := lw_g (lw_at lw_m4 81 rfl) rfl
theorem q849 : (Jvm.Cond.soleField "SleeveSlipsModel" "asked") ∈ lw_all := lw_g (lw_at lw_m4 82 rfl) rfl
theorem q850 : (Jvm.Cond.lays "SleeveSlipsModel" "SleeveSlipsModel" "hangs" "I") ∈ lw_all := lw_g (lw_at lw_m4 83 rfl) rfl
theorem q851 : (Jvm.Cond.soleField "SleeveSlipsModel" "hangs") ∈ lw_all := lw_g (lw_at lw_m4 84 rfl) rfl
theorem q852 : (Jvm.Cond.laysFinal "SleeveSlipsModel" "SleeveSlipsModel" "hung" "[I") ∈ lw_all := lw_g (lw_at lw_m4 85 rfl) rfl
theorem q853 : (Jvm.Cond.soleField "SleeveSlipsModel" "hung") ∈ lw_all := lw_g (lw_at lw_m4 86 rfl) rfl
theorem q854 : (Jvm.Cond.laysFinal "SleeveSlipsModel" "SleeveSlipsModel" "tenths" "[I") ∈ lw_all := lw_g (lw_at lw_m4 87 rfl) rfl
theorem q855 : (Jvm.Cond.soleField "SleeveSlipsModel" "tenths") ∈ lw_all := lw_g (lw_at lw_m4 88 rfl) rfl
theorem q856 : (Jvm.Cond.laysFinal "SleeveSlipsModel" "SleeveSlipsModel" "sortWorth" "[I") ∈ lw_all := lw_g (lw_at lw_m4 89 rfl) rfl
theorem q857 : (Jvm.Cond.soleField "SleeveSlipsModel" "sortWorth") ∈ lw_all := lw_g (lw_at lw_m4 90 rfl) rfl
theorem q858 : (Jvm.Cond.laysFinal "SleeveSlipsModel" "SleeveSlipsModel" "sortDays" "[I") ∈ lw_all := lw_g (lw_at lw_m4 91 rfl) rfl
theorem q859 : (Jvm.Cond.soleField "SleeveSlipsModel" "sortDays") ∈ lw_all := lw_g (lw_at lw_m4 92 rfl) rfl
theorem q860 : (Jvm.Cond.lays "SleeveSlipsModel" "SleeveSlipsModel" "sorts" "I") ∈ lw_all := lw_g (lw_at lw_m4 93 rfl) rfl
theorem q861 : (Jvm.Cond.soleField "SleeveSlipsModel" "sorts") ∈ lw_all := lw_g (lw_at lw_m4 94 rfl) rfl
theorem q862 : (Jvm.Cond.laysFinal "SleeveSlipsModel" "SleeveSlipsModel" "text" "[I") ∈ lw_all := lw_g (lw_at lw_m4 95 rfl) rfl
theorem q863 : (Jvm.Cond.soleField "SleeveSlipsModel" "text") ∈ lw_all := lw_g (lw_at lw_m4 96 rfl) rfl
theorem q864 : (Jvm.Cond.lays "SleeveSlipsModel" "SleeveSlipsModel" "texted" "I") ∈ lw_all := lw_g (lw_at lw_m4 97 rfl) rfl
theorem q865 : (Jvm.Cond.soleField "SleeveSlipsModel" "texted") ∈ lw_all := lw_g (lw_at lw_m4 98 rfl) rfl
theorem q866 : (Jvm.Cond.lays "SleeveSlipsModel" "SleeveSlipsModel" "trace" "J") ∈ lw_all := lw_g (lw_at lw_m4 99 rfl) rfl
theorem q867 : (Jvm.Cond.soleField "SleeveSlipsModel" "trace") ∈ lw_all := lw_g (lw_at lw_m4 100 rfl) rfl
theorem q868 : (Jvm.Cond.lays "SleeveSlipsModel" "SleeveSlipsModel" "at" "I") ∈ lw_all := lw_g (lw_at lw_m4 101 rfl) rfl
theorem q869 : (Jvm.Cond.soleField "SleeveSlipsModel" "at") ∈ lw_all := lw_g (lw_at lw_m4 102 rfl) rfl
theorem q870 : (Jvm.Cond.lays "SleeveSlipsModel" "SleeveSlipsModel" "fault" "I") ∈ lw_all := lw_g (lw_at lw_m4 103 rfl) rfl
theorem q871 : (Jvm.Cond.soleField "SleeveSlipsModel" "fault") ∈ lw_all := lw_g (lw_at lw_m4 104 rfl) rfl
theorem q872 : (Jvm.Cond.lays "SleeveSlipsModel" "SleeveSlipsModel" "readPeople" "I") ∈ lw_all := lw_g (lw_at lw_m4 105 rfl) rfl
theorem q873 : (Jvm.Cond.soleField "SleeveSlipsModel" "readPeople") ∈ lw_all := lw_g (lw_at lw_m4 106 rfl) rfl
theorem q874 : (Jvm.Cond.laysFinal "SleeveSlipsModel" "SleeveSlipsModel" "readPerson" "[I") ∈ lw_all := lw_g (lw_at lw_m4 107 rfl) rfl
theorem q875 : (Jvm.Cond.soleField "SleeveSlipsModel" "readPerson") ∈ lw_all := lw_g (lw_at lw_m4 108 rfl) rfl
theorem q876 : (Jvm.Cond.lays "SleeveSlipsModel" "SleeveSlipsModel" "readAskings" "I") ∈ lw_all := lw_g (lw_at lw_m4 109 rfl) rfl
theorem q877 : (Jvm.Cond.soleField "SleeveSlipsModel" "readAskings") ∈ lw_all := lw_g (lw_at lw_m4 110 rfl) rfl
theorem q878 : (Jvm.Cond.laysFinal "SleeveSlipsModel" "SleeveSlipsModel" "readAsked" "[I") ∈ lw_all := lw_g (lw_at lw_m4 111 rfl) rfl
theorem q879 : (Jvm.Cond.soleField "SleeveSlipsModel" "readAsked") ∈ lw_all := lw_g (lw_at lw_m4 112 rfl) rfl
theorem q880 : (Jvm.Cond.lays "SleeveSlipsModel" "SleeveSlipsModel" "readHangs" "I") ∈ lw_all := lw_g (lw_at lw_m4 113 rfl) rfl
theorem q881 : (Jvm.Cond.soleField "SleeveSlipsModel" "readHangs") ∈ lw_all := lw_g (lw_at lw_m4 114 rfl) rfl
theorem q882 : (Jvm.Cond.laysFinal "SleeveSlipsModel" "SleeveSlipsModel" "readHung" "[I") ∈ lw_all := lw_g (lw_at lw_m4 115 rfl) rfl
theorem q883 : (Jvm.Cond.soleField "SleeveSlipsModel" "readHung") ∈ lw_all := lw_g (lw_at lw_m4 116 rfl) rfl
theorem q884 : (Jvm.Cond.laysFinal "SleeveSlipsModel" "SleeveSlipsModel" "rest" "[I") ∈ lw_all := lw_g (lw_at lw_m4 117 rfl) rfl
theorem q885 : (Jvm.Cond.soleField "SleeveSlipsModel" "rest") ∈ lw_all := lw_g (lw_at lw_m4 118 rfl) rfl
theorem q886 : (Jvm.Cond.laysFinal "SleeveSlipsModel" "SleeveSlipsModel" "brings" "[J") ∈ lw_all := lw_g (lw_at lw_m4 119 rfl) rfl
theorem q887 : (Jvm.Cond.soleField "SleeveSlipsModel" "brings") ∈ lw_all := lw_g (lw_at lw_m4 120 rfl) rfl
theorem q888 : (Jvm.Cond.laysFinal "SleeveSlipsModel" "SleeveSlipsModel" "later" "[J") ∈ lw_all := lw_g (lw_at lw_m4 121 rfl) rfl
theorem q889 : (Jvm.Cond.soleField "SleeveSlipsModel" "later") ∈ lw_all := lw_g (lw_at lw_m4 122 rfl) rfl
theorem q890 : (Jvm.Cond.superclass "SleeveSlipsModel" "java/lang/Object") ∈ lw_all := lw_g (lw_at lw_m4 123 rfl) rfl
theorem q894 : (Jvm.Cond.instanceMethod ({ cls := "SleeveSlipsModel", name := "type", desc := "(JI)I" } : Jvm.MethodName)) ∈ lw_all := lw_g (lw_at lw_m4 127 rfl) rfl
theorem q895 : (Jvm.Cond.selects "SleeveSlipsModel" ({ cls := "SleeveSlipsModel", name := "type", desc := "(JI)I" } : Jvm.MethodName) ({ cls := "SleeveSlipsModel", name := "type", desc := "(JI)I" } : Jvm.MethodName)) ∈ lw_all := lw_g (lw_at lw_m4 128 rfl) rfl
theorem q896 : (Jvm.Cond.code ({ cls := "SleeveSlipsModel", name := "type", desc := "(JI)I" } : Jvm.MethodName) prog_14_method_9_code (5 : Nat) (Option.some Jvm.ClassFile.FieldType.int)) ∈ lw_all := lw_g (lw_at lw_m4 129 rfl) rfl
theorem q897 : (Jvm.Cond.constantLong "SleeveSlipsModel" (74 : Nat) (8 : Int64)) ∈ lw_all := lw_g (lw_at lw_m4 130 rfl) rfl
theorem q898 : (Jvm.Cond.methodLink "SleeveSlipsModel" (67 : Nat) ({ cls := "SleeveSlipsModel", name := "in", desc := "(JJJ)Z" } : Jvm.MethodName)) ∈ lw_all := lw_g (lw_at lw_m4 131 rfl) rfl
theorem q899 : (Jvm.Cond.static ({ cls := "SleeveSlipsModel", name := "in", desc := "(JJJ)Z" } : Jvm.MethodName)) ∈ lw_all := lw_g (lw_at lw_m4 132 rfl) rfl
theorem q900 : (Jvm.Cond.code ({ cls := "SleeveSlipsModel", name := "in", desc := "(JJJ)Z" } : Jvm.MethodName) prog_14_method_3_code (6 : Nat) (Option.some Jvm.ClassFile.FieldType.boolean)) ∈ lw_all := lw_g (lw_at lw_m4 133 rfl) rfl
theorem q901 : (Jvm.Cond.constantLong "SleeveSlipsModel" (79 : Nat) (255 : Int64)) ∈ lw_all := lw_g (lw_at lw_m4 134 rfl) rfl
theorem q903 : (Jvm.Cond.instanceMethod ({ cls := "SleeveSlipsModel", name := "clear", desc := "()I" } : Jvm.MethodName)) ∈ lw_all := lw_g (lw_at lw_m4 136 rfl) rfl
theorem q904 : (Jvm.Cond.selects "SleeveSlipsModel" ({ cls := "SleeveSlipsModel", name := "clear", desc := "()I" } : Jvm.MethodName) ({ cls := "SleeveSlipsModel", name := "clear", desc := "()I" } : Jvm.MethodName)) ∈ lw_all := lw_g (lw_at lw_m4 137 rfl) rfl
theorem q905 : (Jvm.Cond.code ({ cls := "SleeveSlipsModel", name := "clear", desc := "()I" } : Jvm.MethodName) prog_14_method_10_code (2 : Nat) (Option.some Jvm.ClassFile.FieldType.int)) ∈ lw_all := lw_g (lw_at lw_m4 138 rfl) rfl
theorem q907 : (Jvm.Cond.instanceMethod ({ cls := "SleeveSlipsModel", name := "town", desc := "()I" } : Jvm.MethodName)) ∈ lw_all := lw_g (lw_at lw_m4 140 rfl) rfl
theorem q908 : (Jvm.Cond.selects "SleeveSlipsModel" ({ cls := "SleeveSlipsModel", name := "town", desc := "()I" } : Jvm.MethodName) ({ cls := "SleeveSlipsModel", name := "town", desc := "()I" } : Jvm.MethodName)) ∈ lw_all := lw_g (lw_at lw_m4 141 rfl) rfl
theorem q909 : (Jvm.Cond.code ({ cls := "SleeveSlipsModel", name := "town", desc := "()I" } : Jvm.MethodName) prog_14_method_15_code (2 : Nat) (Option.some Jvm.ClassFile.FieldType.int)) ∈ lw_all := lw_g (lw_at lw_m4 142 rfl) rfl
theorem q910 : (Jvm.Cond.methodLink "SleeveSlipsModel" (87 : Nat) ({ cls := "SleeveSlipsModel", name := "isEnd", desc := "()Z" } : Jvm.MethodName)) ∈ lw_all := lw_g (lw_at lw_m4 143 rfl) rfl
theorem q911 : (Jvm.Cond.privateMethod ({ cls := "SleeveSlipsModel", name := "isEnd", desc := "()Z" } : Jvm.MethodName)) ∈ lw_tbl := lw_at lw_m4 144 rfl
theorem q912 : (Jvm.Cond.instanceMethod ({ cls := "SleeveSlipsModel", name := "isEnd", desc := "()Z" } : Jvm.MethodName)) ∈ lw_all := lw_g (lw_at lw_m4 145 rfl) rfl
theorem q913 : (Jvm.Cond.code ({ cls := "SleeveSlipsModel", name := "isEnd", desc := "()Z" } : Jvm.MethodName) prog_14_method_11_code (1 : Nat) (Option.some Jvm.ClassFile.FieldType.boolean)) ∈ lw_all := lw_g (lw_at lw_m4 146 rfl) rfl
theorem q914 : (Jvm.Cond.methodLink "SleeveSlipsModel" (130 : Nat) ({ cls := "SleeveSlipsModel", name := "takeItem", desc := "()V" } : Jvm.MethodName)) ∈ lw_all := lw_g (lw_at lw_m4 147 rfl) rfl
theorem q915 : (Jvm.Cond.privateMethod ({ cls := "SleeveSlipsModel", name := "takeItem", desc := "()V" } : Jvm.MethodName)) ∈ lw_tbl := lw_at lw_m4 148 rfl
theorem q916 : (Jvm.Cond.instanceMethod ({ cls := "SleeveSlipsModel", name := "takeItem", desc := "()V" } : Jvm.MethodName)) ∈ lw_all := lw_g (lw_at lw_m4 149 rfl) rfl
theorem q917 : (Jvm.Cond.code ({ cls := "SleeveSlipsModel", name := "takeItem", desc := "()V" } : Jvm.MethodName) prog_14_method_14_code (5 : Nat) (Option.none : Option Jvm.ClassFile.FieldType)) ∈ lw_all := lw_g (lw_at lw_m4 150 rfl) rfl
theorem q918 : (Jvm.Cond.methodLink "SleeveSlipsModel" (107 : Nat) ({ cls := "SleeveSlipsModel", name := "takeLetters", desc := "()J" } : Jvm.MethodName)) ∈ lw_all := lw_g (lw_at lw_m4 151 rfl) rfl
theorem q919 : (Jvm.Cond.privateMethod ({ cls := "SleeveSlipsModel", name := "takeLetters", desc := "()J" } : Jvm.MethodName)) ∈ lw_tbl := lw_at lw_m4 152 rfl
theorem q920 : (Jvm.Cond.instanceMethod ({ cls := "SleeveSlipsModel", name := "takeLetters", desc := "()J" } : Jvm.MethodName)) ∈ lw_all := lw_g (lw_at lw_m4 153 rfl) rfl
theorem q921 : (Jvm.Cond.code ({ cls := "SleeveSlipsModel", name := "takeLetters", desc := "()J" } : Jvm.MethodName) prog_14_method_13_code (4 : Nat) (Option.some Jvm.ClassFile.FieldType.long)) ∈ lw_all := lw_g (lw_at lw_m4 154 rfl) rfl
theorem q922 : (Jvm.Cond.constantLong "SleeveSlipsModel" (99 : Nat) (97 : Int64)) ∈ lw_all := lw_g (lw_at lw_m4 155 rfl) rfl
theorem q923 : (Jvm.Cond.constantLong "SleeveSlipsModel" (101 : Nat) (122 : Int64)) ∈ lw_all := lw_g (lw_at lw_m4 156 rfl) rfl
theorem q924 : (Jvm.Cond.constantLong "SleeveSlipsModel" (103 : Nat) (32 : Int64)) ∈ lw_all := lw_g (lw_at lw_m4 157 rfl) rfl
theorem q925 : (Jvm.Cond.constantLong "SleeveSlipsModel" (105 : Nat) (96 : Int64)) ∈ lw_all := lw_g (lw_at lw_m4 158 rfl) rfl
theorem q926 : (Jvm.Cond.constantLong "SleeveSlipsModel" (111 : Nat) (542723566 : Int64)) ∈ lw_all := lw_g (lw_at lw_m4 159 rfl) rfl
theorem q927 : (Jvm.Cond.methodLink "SleeveSlipsModel" (116 : Nat) ({ cls := "SleeveSlipsModel", name := "takeNumber", desc := "(III)I" } : Jvm.MethodName)) ∈ lw_all := lw_g (lw_at lw_m4 160 rfl) rfl
theorem q928 : (Jvm.Cond.privateMethod ({ cls := "SleeveSlipsModel", name := "takeNumber", desc := "(III)I" } : Jvm.MethodName)) ∈ lw_tbl := lw_at lw_m4 161 rfl
theorem q929 : (Jvm.Cond.instanceMethod ({ cls := "SleeveSlipsModel", name := "takeNumber", desc := "(III)I" } : Jvm.MethodName)) ∈ lw_all := lw_g (lw_at lw_m4 162 rfl) rfl
theorem q930 : (Jvm.Cond.code ({ cls := "SleeveSlipsModel", name := "takeNumber", desc := "(III)I" } : Jvm.MethodName) prog_14_method_12_code (7 : Nat) (Option.some Jvm.ClassFile.FieldType.int)) ∈ lw_all := lw_g (lw_at lw_m4 163 rfl) rfl
theorem q931 : (Jvm.Cond.constantLong "SleeveSlipsModel" (91 : Nat) (48 : Int64)) ∈ lw_all := lw_g (lw_at lw_m4 164 rfl) rfl
theorem q932 : (Jvm.Cond.constantLong "SleeveSlipsModel" (93 : Nat) (57 : Int64)) ∈ lw_all := lw_g (lw_at lw_m4 165 rfl) rfl
theorem q933 : (Jvm.Cond.methodLink "SleeveSlipsModel" (95 : Nat) ({ cls := "SleeveSlipsModel", name := "lesser", desc := "(II)I" } : Jvm.MethodName)) ∈ lw_all := lw_g (lw_at lw_m4 166 rfl) rfl
theorem q934 : (Jvm.Cond.static ({ cls := "SleeveSlipsModel", name := "lesser", desc := "(II)I" } : Jvm.MethodName)) ∈ lw_all := lw_g (lw_at lw_m4 167 rfl) rfl
theorem q935 : (Jvm.Cond.code ({ cls := "SleeveSlipsModel", name := "lesser", desc := "(II)I" } : Jvm.MethodName) prog_14_method_6_code (2 : Nat) (Option.some Jvm.ClassFile.FieldType.int)) ∈ lw_all := lw_g (lw_at lw_m4 168 rfl) rfl
theorem q936 : (Jvm.Cond.constantLong "SleeveSlipsModel" (120 : Nat) (1643 : Int64)) ∈ lw_all := lw_g (lw_at lw_m4 169 rfl) rfl
theorem q937 : (Jvm.Cond.constantLong "SleeveSlipsModel" (125 : Nat) (8435955 : Int64)) ∈ lw_all := lw_g (lw_at lw_m4 170 rfl) rfl
theorem q939 : (Jvm.Cond.instanceMethod ({ cls := "SleeveSlipsModel", name := "person", desc := "(II)I" } : Jvm.MethodName)) ∈ lw_all := lw_g (lw_at lw_m4 172 rfl) rfl
theorem q940 : (Jvm.Cond.selects "SleeveSlipsModel" ({ cls := "SleeveSlipsModel", name := "person", desc := "(II)I" } : Jvm.MethodName) ({ cls := "SleeveSlipsModel", name := "person", desc := "(II)I" } : Jvm.MethodName)) ∈ lw_all := lw_g (lw_at lw_m4 173 rfl) rfl
theorem q941 : (Jvm.Cond.code ({ cls := "SleeveSlipsModel", name := "person", desc := "(II)I" } : Jvm.MethodName) prog_14_method_16_code (3 : Nat) (Option.some Jvm.ClassFile.FieldType.int)) ∈ lw_all := lw_g (lw_at lw_m4 174 rfl) rfl
theorem q942 : (Jvm.Cond.methodLink "SleeveSlipsModel" (136 : Nat) ({ cls := "SleeveSlipsModel", name := "isOne", desc := "(I)Z" } : Jvm.MethodName)) ∈ lw_all := lw_g (lw_at lw_m4 175 rfl) rfl
theorem q943 : (Jvm.Cond.privateMethod ({ cls := "SleeveSlipsModel", name := "isOne", desc := "(I)Z" } : Jvm.MethodName)) ∈ lw_tbl := lw_at lw_m4 176 rfl
theorem q944 : (Jvm.Cond.instanceMethod ({ cls := "SleeveSlipsModel", name := "isOne", desc := "(I)Z" } : Jvm.MethodName)) ∈ lw_all := lw_g (lw_at lw_m4 177 rfl) rfl
theorem q945 : (Jvm.Cond.code ({ cls := "SleeveSlipsModel", name := "isOne", desc := "(I)Z" } : Jvm.MethodName) prog_14_method_7_code (2 : Nat) (Option.some Jvm.ClassFile.FieldType.boolean)) ∈ lw_all := lw_g (lw_at lw_m4 178 rfl) rfl
theorem q946 : (Jvm.Cond.constantLong "SleeveSlipsModel" (140 : Nat) (3 : Int64)) ∈ lw_all := lw_g (lw_at lw_m4 179 rfl) rfl
theorem q948 : (Jvm.Cond.instanceMethod ({ cls := "SleeveSlipsModel", name := "asking", desc := "(II)I" } : Jvm.MethodName)) ∈ lw_all := lw_g (lw_at lw_m4 181 rfl) rfl
theorem q949 : (Jvm.Cond.selects "SleeveSlipsModel" ({ cls := "SleeveSlipsModel", name := "asking", desc := "(II)I" } : Jvm.MethodName) ({ cls := "SleeveSlipsModel", name := "asking", desc := "(II)I" } : Jvm.MethodName)) ∈ lw_all := lw_g (lw_at lw_m4 182 rfl) rfl
theorem q950 : (Jvm.Cond.code ({ cls := "SleeveSlipsModel", name := "asking", desc := "(II)I" } : Jvm.MethodName) prog_14_method_18_code (4 : Nat) (Option.some Jvm.ClassFile.FieldType.int)) ∈ lw_all := lw_g (lw_at lw_m4 183 rfl) rfl
theorem q951 : (Jvm.Cond.methodLink "SleeveSlipsModel" (142 : Nat) ({ cls := "SleeveSlipsModel", name := "isAsking", desc := "(I)Z" } : Jvm.MethodName)) ∈ lw_all := lw_g (lw_at lw_m4 184 rfl) rfl
theorem q952 : (Jvm.Cond.privateMethod ({ cls := "SleeveSlipsModel", name := "isAsking", desc := "(I)Z" } : Jvm.MethodName)) ∈ lw_tbl := lw_at lw_m4 185 rfl
theorem q953 : (Jvm.Cond.instanceMethod ({ cls := "SleeveSlipsModel", name := "isAsking", desc := "(I)Z" } : Jvm.MethodName)) ∈ lw_all := lw_g (lw_at lw_m4 186 rfl) rfl
theorem q954 : (Jvm.Cond.code ({ cls := "SleeveSlipsModel", name := "isAsking", desc := "(I)Z" } : Jvm.MethodName) prog_14_method_8_code (2 : Nat) (Option.some Jvm.ClassFile.FieldType.boolean)) ∈ lw_all := lw_g (lw_at lw_m4 187 rfl) rfl
theorem q955 : (Jvm.Cond.constantLong "SleeveSlipsModel" (145 : Nat) (7 : Int64)) ∈ lw_all := lw_g (lw_at lw_m4 188 rfl) rfl
theorem q956 : (Jvm.Cond.methodLink "SleeveSlipsModel" (147 : Nat) ({ cls := "SleeveSlipsModel", name := "sleeveOf", desc := "(I)I" } : Jvm.MethodName)) ∈ lw_all := lw_g (lw_at lw_m4 189 rfl) rfl
theorem q957 : (Jvm.Cond.privateMethod ({ cls := "SleeveSlipsModel", name := "sleeveOf", desc := "(I)I" } : Jvm.MethodName)) ∈ lw_tbl := lw_at lw_m4 190 rfl
theorem q958 : (Jvm.Cond.instanceMethod ({ cls := "SleeveSlipsModel", name := "sleeveOf", desc := "(I)I" } : Jvm.MethodName)) ∈ lw_all := lw_g (lw_at lw_m4 191 rfl) rfl
theorem q959 : (Jvm.Cond.code ({ cls := "SleeveSlipsModel", name := "sleeveOf", desc := "(I)I" } : Jvm.MethodName) prog_14_method_17_code (5 : Nat) (Option.some Jvm.ClassFile.FieldType.int)) ∈ lw_all := lw_g (lw_at lw_m4 192 rfl) rfl
theorem q961 : (Jvm.Cond.instanceMethod ({ cls := "SleeveSlipsModel", name := "slip", desc := "(II)I" } : Jvm.MethodName)) ∈ lw_all := lw_g (lw_at lw_m4 194 rfl) rfl
theorem q962 : (Jvm.Cond.selects "SleeveSlipsModel" ({ cls := "SleeveSlipsModel", name := "slip", desc := "(II)I" } : Jvm.MethodName) ({ cls := "SleeveSlipsModel", name := "slip", desc := "(II)I" } : Jvm.MethodName)) ∈ lw_all := lw_g (lw_at lw_m4 195 rfl) rfl
theorem q963 : (Jvm.Cond.code ({ cls := "SleeveSlipsModel", name := "slip", desc := "(II)I" } : Jvm.MethodName) prog_14_method_19_code (3 : Nat) (Option.some Jvm.ClassFile.FieldType.int)) ∈ lw_all := lw_g (lw_at lw_m4 196 rfl) rfl
theorem q965 : (Jvm.Cond.instanceMethod ({ cls := "SleeveSlipsModel", name := "promise", desc := "(I)I" } : Jvm.MethodName)) ∈ lw_all := lw_g (lw_at lw_m4 198 rfl) rfl
theorem q966 : (Jvm.Cond.selects "SleeveSlipsModel" ({ cls := "SleeveSlipsModel", name := "promise", desc := "(I)I" } : Jvm.MethodName) ({ cls := "SleeveSlipsModel", name := "promise", desc := "(I)I" } : Jvm.MethodName)) ∈ lw_all := lw_g (lw_at lw_m4 199 rfl) rfl
theorem q967 : (Jvm.Cond.code ({ cls := "SleeveSlipsModel", name := "promise", desc := "(I)I" } : Jvm.MethodName) prog_14_method_24_code (3 : Nat) (Option.some Jvm.ClassFile.FieldType.int)) ∈ lw_all := lw_g (lw_at lw_m4 200 rfl) rfl
theorem q968 : (Jvm.Cond.methodLink "SleeveSlipsModel" (154 : Nat) ({ cls := "SleeveSlipsModel", name := "insert", desc := "(III)V" } : Jvm.MethodName)) ∈ lw_all := lw_g (lw_at lw_m4 201 rfl) rfl
theorem q969 : (Jvm.Cond.privateMethod ({ cls := "SleeveSlipsModel", name := "insert", desc := "(III)V" } : Jvm.MethodName)) ∈ lw_tbl := lw_at lw_m4 202 rfl
theorem q970 : (Jvm.Cond.instanceMethod ({ cls := "SleeveSlipsModel", name := "insert", desc := "(III)V" } : Jvm.MethodName)) ∈ lw_all := lw_g (lw_at lw_m4 203 rfl) rfl
theorem q971 : (Jvm.Cond.code ({ cls := "SleeveSlipsModel", name := "insert", desc := "(III)V" } : Jvm.MethodName) prog_14_method_20_code (5 : Nat) (Option.none : Option Jvm.ClassFile.FieldType)) ∈ lw_all := lw_g (lw_at lw_m4 204 rfl) rfl
theorem q972 : (Jvm.Cond.methodLink "SleeveSlipsModel" (158 : Nat) ({ cls := "SleeveSlipsModel", name := "minds", desc := "(IIII)V" } : Jvm.MethodName)) ∈ lw_all := lw_g (lw_at lw_m4 205 rfl) rfl
theorem q973 : (Jvm.Cond.privateMethod ({ cls := "SleeveSlipsModel", name := "minds", desc := "(IIII)V" } : Jvm.MethodName)) ∈ lw_tbl := lw_at lw_m4 206 rfl
theorem q974 : (Jvm.Cond.instanceMethod ({ cls := "SleeveSlipsModel", name := "minds", desc := "(IIII)V" } : Jvm.MethodName)) ∈ lw_all := lw_g (lw_at lw_m4 207 rfl) rfl
theorem q975 : (Jvm.Cond.code ({ cls := "SleeveSlipsModel", name := "minds", desc := "(IIII)V" } : Jvm.MethodName) prog_14_method_23_code (6 : Nat) (Option.none : Option Jvm.ClassFile.FieldType)) ∈ lw_all := lw_g (lw_at lw_m4 208 rfl) rfl
theorem q977 : (Jvm.Cond.instanceMethod ({ cls := "SleeveSlipsModel", name := "letOff", desc := "(I)I" } : Jvm.MethodName)) ∈ lw_all := lw_g (lw_at lw_m4 210 rfl) rfl
theorem q978 : (Jvm.Cond.selects "SleeveSlipsModel" ({ cls := "SleeveSlipsModel", name := "letOff", desc := "(I)I" } : Jvm.MethodName) ({ cls := "SleeveSlipsModel", name := "letOff", desc := "(I)I" } : Jvm.MethodName)) ∈ lw_all := lw_g (lw_at lw_m4 211 rfl) rfl
theorem q979 : (Jvm.Cond.code ({ cls := "SleeveSlipsModel", name := "letOff", desc := "(I)I" } : Jvm.MethodName) prog_14_method_25_code (3 : Nat) (Option.some Jvm.ClassFile.FieldType.int)) ∈ lw_all := lw_g (lw_at lw_m4 212 rfl) rfl
theorem q980 : (Jvm.Cond.methodLink "SleeveSlipsModel" (151 : Nat) ({ cls := "SleeveSlipsModel", name := "placeOf", desc := "(II)I" } : Jvm.MethodName)) ∈ lw_all := lw_g (lw_at lw_m4 213 rfl) rfl
theorem q981 : (Jvm.Cond.privateMethod ({ cls := "SleeveSlipsModel", name := "placeOf", desc := "(II)I" } : Jvm.MethodName)) ∈ lw_tbl := lw_at lw_m4 214 rfl
theorem q982 : (Jvm.Cond.instanceMethod ({ cls := "SleeveSlipsModel", name := "placeOf", desc := "(II)I" } : Jvm.MethodName)) ∈ lw_all := lw_g (lw_at lw_m4 215 rfl) rfl
theorem q983 : (Jvm.Cond.code ({ cls := "SleeveSlipsModel", name := "placeOf", desc := "(II)I" } : Jvm.MethodName) prog_14_method_21_code (4 : Nat) (Option.some Jvm.ClassFile.FieldType.int)) ∈ lw_all := lw_g (lw_at lw_m4 216 rfl) rfl
theorem q984 : (Jvm.Cond.methodLink "SleeveSlipsModel" (162 : Nat) ({ cls := "SleeveSlipsModel", name := "remove", desc := "(II)V" } : Jvm.MethodName)) ∈ lw_all := lw_g (lw_at lw_m4 217 rfl) rfl
theorem q985 : (Jvm.Cond.privateMethod ({ cls := "SleeveSlipsModel", name := "remove", desc := "(II)V" } : Jvm.MethodName)) ∈ lw_tbl := lw_at lw_m4 218 rfl
theorem q986 : (Jvm.Cond.instanceMethod ({ cls := "SleeveSlipsModel", name := "remove", desc := "(II)V" } : Jvm.MethodName)) ∈ lw_all := lw_g (lw_at lw_m4 219 rfl) rfl
theorem q987 : (Jvm.Cond.code ({ cls := "SleeveSlipsModel", name := "remove", desc := "(II)V" } : Jvm.MethodName) prog_14_method_22_code (4 : Nat) (Option.none : Option Jvm.ClassFile.FieldType)) ∈ lw_all := lw_g (lw_at lw_m4 220 rfl) rfl
theorem q989 : (Jvm.Cond.instanceMethod ({ cls := "SleeveSlipsModel", name := "breaks", desc := "(I)I" } : Jvm.MethodName)) ∈ lw_all := lw_g (lw_at lw_m4 222 rfl) rfl
theorem q990 : (Jvm.Cond.selects "SleeveSlipsModel" ({ cls := "SleeveSlipsModel", name := "breaks", desc := "(I)I" } : Jvm.MethodName) ({ cls := "SleeveSlipsModel", name := "breaks", desc := "(I)I" } : Jvm.MethodName)) ∈ lw_all := lw_g (lw_at lw_m4 223 rfl) rfl
theorem q991 : (Jvm.Cond.code ({ cls := "SleeveSlipsModel", name := "breaks", desc := "(I)I" } : Jvm.MethodName) prog_14_method_26_code (3 : Nat) (Option.some Jvm.ClassFile.FieldType.int)) ∈ lw_all := lw_g (lw_at lw_m4 224 rfl) rfl
theorem q993 : (Jvm.Cond.instanceMethod ({ cls := "SleeveSlipsModel", name := "hand", desc := "(II)I" } : Jvm.MethodName)) ∈ lw_all := lw_g (lw_at lw_m4 226 rfl) rfl
theorem q994 : (Jvm.Cond.selects "SleeveSlipsModel" ({ cls := "SleeveSlipsModel", name := "hand", desc := "(II)I" } : Jvm.MethodName) ({ cls := "SleeveSlipsModel", name := "hand", desc := "(II)I" } : Jvm.MethodName)) ∈ lw_all := lw_g (lw_at lw_m4 227 rfl) rfl
theorem q995 : (Jvm.Cond.code ({ cls := "SleeveSlipsModel", name := "hand", desc := "(II)I" } : Jvm.MethodName) prog_14_method_27_code (4 : Nat) (Option.some Jvm.ClassFile.FieldType.int)) ∈ lw_all := lw_g (lw_at lw_m4 228 rfl) rfl
theorem q997 : (Jvm.Cond.instanceMethod ({ cls := "SleeveSlipsModel", name := "undo", desc := "()I" } : Jvm.MethodName)) ∈ lw_all := lw_g (lw_at lw_m4 230 rfl) rfl
theorem q998 : (Jvm.Cond.selects "SleeveSlipsModel" ({ cls := "SleeveSlipsModel", name := "undo", desc := "()I" } : Jvm.MethodName) ({ cls := "SleeveSlipsModel", name := "undo", desc := "()I" } : Jvm.MethodName)) ∈ lw_all := lw_g (lw_at lw_m4 231 rfl) rfl
theorem q999 : (Jvm.Cond.code ({ cls := "SleeveSlipsModel", name := "undo", desc := "()I" } : Jvm.MethodName) prog_14_method_28_code (4 : Nat) (Option.some Jvm.ClassFile.FieldType.int)) ∈ lw_all := lw_g (lw_at lw_m4 232 rfl) rfl
theorem q1001 : (Jvm.Cond.instanceMethod ({ cls := "SleeveSlipsModel", name := "day", desc := "()I" } : Jvm.MethodName)) ∈ lw_all := lw_g (lw_at lw_m4 234 rfl) rfl
theorem q1002 : (Jvm.Cond.selects "SleeveSlipsModel" ({ cls := "SleeveSlipsModel", name := "day", desc := "()I" } : Jvm.MethodName) ({ cls := "SleeveSlipsModel", name := "day", desc := "()I" } : Jvm.MethodName)) ∈ lw_all := lw_g (lw_at lw_m4 235 rfl) rfl
theorem q1003 : (Jvm.Cond.code ({ cls := "SleeveSlipsModel", name := "day", desc := "()I" } : Jvm.MethodName) prog_14_method_31_code (5 : Nat) (Option.some Jvm.ClassFile.FieldType.int)) ∈ lw_all := lw_g (lw_at lw_m4 236 rfl) rfl
theorem q1004 : (Jvm.Cond.methodLink "SleeveSlipsModel" (169 : Nat) ({ cls := "SleeveSlipsModel", name := "firstFree", desc := "(I)I" } : Jvm.MethodName)) ∈ lw_all := lw_g (lw_at lw_m4 237 rfl) rfl
theorem q1005 : (Jvm.Cond.privateMethod ({ cls := "SleeveSlipsModel", name := "firstFree", desc := "(I)I" } : Jvm.MethodName)) ∈ lw_tbl := lw_at lw_m4 238 rfl
theorem q1006 : (Jvm.Cond.instanceMethod ({ cls := "SleeveSlipsModel", name := "firstFree", desc := "(I)I" } : Jvm.MethodName)) ∈ lw_all := lw_g (lw_at lw_m4 239 rfl) rfl
theorem q1007 : (Jvm.Cond.code ({ cls := "SleeveSlipsModel", name := "firstFree", desc := "(I)I" } : Jvm.MethodName) prog_14_method_30_code (3 : Nat) (Option.some Jvm.ClassFile.FieldType.int)) ∈ lw_all := lw_g (lw_at lw_m5 0 rfl) rfl
theorem q1008 : (Jvm.Cond.methodLink "SleeveSlipsModel" (166 : Nat) ({ cls := "SleeveSlipsModel", name := "isFree", desc := "(I)Z" } : Jvm.MethodName)) ∈ lw_all := lw_g (lw_at lw_m5 1 rfl) rfl
theorem q1009 : (Jvm.Cond.privateMethod ({ cls := "SleeveSlipsModel", name := "isFree", desc := "(I)Z" } : Jvm.MethodName)) ∈ lw_tbl := lw_at lw_m5 2 rfl
theorem q1010 : (Jvm.Cond.instanceMethod ({ cls := "SleeveSlipsModel", name := "isFree", desc := "(I)Z" } : Jvm.MethodName)) ∈ lw_all := lw_g (lw_at lw_m5 3 rfl) rfl
theorem q1011 : (Jvm.Cond.code ({ cls := "SleeveSlipsModel", name := "isFree", desc := "(I)Z" } : Jvm.MethodName) prog_14_method_29_code (4 : Nat) (Option.some Jvm.ClassFile.FieldType.boolean)) ∈ lw_all := lw_g (lw_at lw_m5 4 rfl) rfl
theorem q1013 : (Jvm.Cond.instanceMethod ({ cls := "SleeveSlipsModel", name := "now", desc := "(I)I" } : Jvm.MethodName)) ∈ lw_all := lw_g (lw_at lw_m5 6 rfl) rfl
theorem q1014 : (Jvm.Cond.selects "SleeveSlipsModel" ({ cls := "SleeveSlipsModel", name := "now", desc := "(I)I" } : Jvm.MethodName) ({ cls := "SleeveSlipsModel", name := "now", desc := "(I)I" } : Jvm.MethodName)) ∈ lw_all := lw_g (lw_at lw_m5 7 rfl) rfl
theorem q1015 : (Jvm.Cond.code ({ cls := "SleeveSlipsModel", name := "now", desc := "(I)I" } : Jvm.MethodName) prog_14_method_33_code (2 : Nat) (Option.some Jvm.ClassFile.FieldType.int)) ∈ lw_all := lw_g (lw_at lw_m5 8 rfl) rfl
theorem q1016 : (Jvm.Cond.methodLink "SleeveSlipsModel" (172 : Nat) ({ cls := "SleeveSlipsModel", name := "slips", desc := "()I" } : Jvm.MethodName)) ∈ lw_all := lw_g (lw_at lw_m5 9 rfl) rfl
theorem q1017 : (Jvm.Cond.privateMethod ({ cls := "SleeveSlipsModel", name := "slips", desc := "()I" } : Jvm.MethodName)) ∈ lw_tbl := lw_at lw_m5 10 rfl
theorem q1018 : (Jvm.Cond.instanceMethod ({ cls := "SleeveSlipsModel", name := "slips", desc := "()I" } : Jvm.MethodName)) ∈ lw_all := lw_g (lw_at lw_m5 11 rfl) rfl
theorem q1019 : (Jvm.Cond.code ({ cls := "SleeveSlipsModel", name := "slips", desc := "()I" } : Jvm.MethodName) prog_14_method_32_code (3 : Nat) (Option.some Jvm.ClassFile.FieldType.int)) ∈ lw_all := lw_g (lw_at lw_m5 12 rfl) rfl
theorem q1021 : (Jvm.Cond.instanceMethod ({ cls := "SleeveSlipsModel", name := "take", desc := "(II)I" } : Jvm.MethodName)) ∈ lw_all := lw_g (lw_at lw_m5 14 rfl) rfl
theorem q1022 : (Jvm.Cond.selects "SleeveSlipsModel" ({ cls := "SleeveSlipsModel", name := "take", desc := "(II)I" } : Jvm.MethodName) ({ cls := "SleeveSlipsModel", name := "take", desc := "(II)I" } : Jvm.MethodName)) ∈ lw_all := lw_g (lw_at lw_m5 15 rfl) rfl
theorem q1023 : (Jvm.Cond.code ({ cls := "SleeveSlipsModel", name := "take", desc := "(II)I" } : Jvm.MethodName) prog_14_method_37_code (4 : Nat) (Option.some Jvm.ClassFile.FieldType.int)) ∈ lw_all := lw_g (lw_at lw_m5 16 rfl) rfl
theorem q1024 : (Jvm.Cond.methodLink "SleeveSlipsModel" (190 : Nat) ({ cls := "SleeveSlipsModel", name := "bestOf", desc := "(III)I" } : Jvm.MethodName)) ∈ lw_all := lw_g (lw_at lw_m5 17 rfl) rfl
theorem q1025 : (Jvm.Cond.privateMethod ({ cls := "SleeveSlipsModel", name := "bestOf", desc := "(III)I" } : Jvm.MethodName)) ∈ lw_tbl := lw_at lw_m5 18 rfl
theorem q1026 : (Jvm.Cond.instanceMethod ({ cls := "SleeveSlipsModel", name := "bestOf", desc := "(III)I" } : Jvm.MethodName)) ∈ lw_all := lw_g (lw_at lw_m5 19 rfl) rfl
theorem q1027 : (Jvm.Cond.code ({ cls := "SleeveSlipsModel", name := "bestOf", desc := "(III)I" } : Jvm.MethodName) prog_14_method_36_code (7 : Nat) (Option.some Jvm.ClassFile.FieldType.int)) ∈ lw_all := lw_g (lw_at lw_m5 20 rfl) rfl
theorem q1028 : (Jvm.Cond.methodLink "SleeveSlipsModel" (183 : Nat) ({ cls := "SleeveSlipsModel", name := "worthOf", desc := "(I)I" } : Jvm.MethodName)) ∈ lw_all := lw_g (lw_at lw_m5 21 rfl) rfl
theorem q1029 : (Jvm.Cond.privateMethod ({ cls := "SleeveSlipsModel", name := "worthOf", desc := "(I)I" } : Jvm.MethodName)) ∈ lw_tbl := lw_at lw_m5 22 rfl
theorem q1030 : (Jvm.Cond.instanceMethod ({ cls := "SleeveSlipsModel", name := "worthOf", desc := "(I)I" } : Jvm.MethodName)) ∈ lw_all := lw_g (lw_at lw_m5 23 rfl) rfl
theorem q1031 : (Jvm.Cond.code ({ cls := "SleeveSlipsModel", name := "worthOf", desc := "(I)I" } : Jvm.MethodName) prog_14_method_35_code (4 : Nat) (Option.some Jvm.ClassFile.FieldType.int)) ∈ lw_all := lw_g (lw_at lw_m5 24 rfl) rfl
theorem q1032 : (Jvm.Cond.methodLink "SleeveSlipsModel" (176 : Nat) ({ cls := "SleeveSlipsModel", name := "has", desc := "(II)Z" } : Jvm.MethodName)) ∈ lw_all := lw_g (lw_at lw_m5 25 rfl) rfl
theorem q1033 : (Jvm.Cond.static ({ cls := "SleeveSlipsModel", name := "has", desc := "(II)Z" } : Jvm.MethodName)) ∈ lw_all := lw_g (lw_at lw_m5 26 rfl) rfl
theorem q1034 : (Jvm.Cond.code ({ cls := "SleeveSlipsModel", name := "has", desc := "(II)Z" } : Jvm.MethodName) prog_14_method_4_code (2 : Nat) (Option.some Jvm.ClassFile.FieldType.boolean)) ∈ lw_all := lw_g (lw_at lw_m5 27 rfl) rfl
theorem q1035 : (Jvm.Cond.methodLink "SleeveSlipsModel" (186 : Nat) ({ cls := "SleeveSlipsModel", name := "canKeep", desc := "(III)Z" } : Jvm.MethodName)) ∈ lw_all := lw_g (lw_at lw_m5 28 rfl) rfl
theorem q1036 : (Jvm.Cond.privateMethod ({ cls := "SleeveSlipsModel", name := "canKeep", desc := "(III)Z" } : Jvm.MethodName)) ∈ lw_tbl := lw_at lw_m5 29 rfl
theorem q1037 : (Jvm.Cond.instanceMethod ({ cls := "SleeveSlipsModel", name := "canKeep", desc := "(III)Z" } : Jvm.MethodName)) ∈ lw_all := lw_g (lw_at lw_m5 30 rfl) rfl
theorem q1038 : (Jvm.Cond.code ({ cls := "SleeveSlipsModel", name := "canKeep", desc := "(III)Z" } : Jvm.MethodName) prog_14_method_34_code (10 : Nat) (Option.some Jvm.ClassFile.FieldType.boolean)) ∈ lw_all := lw_g (lw_at lw_m5 31 rfl) rfl
theorem q1039 : (Jvm.Cond.methodLink "SleeveSlipsModel" (180 : Nat) ({ cls := "SleeveSlipsModel", name := "ones", desc := "(I)I" } : Jvm.MethodName)) ∈ lw_all := lw_g (lw_at lw_m5 32 rfl) rfl
theorem q1040 : (Jvm.Cond.static ({ cls := "SleeveSlipsModel", name := "ones", desc := "(I)I" } : Jvm.MethodName)) ∈ lw_all := lw_g (lw_at lw_m5 33 rfl) rfl
theorem q1041 : (Jvm.Cond.code ({ cls := "SleeveSlipsModel", name := "ones", desc := "(I)I" } : Jvm.MethodName) prog_14_method_5_code (3 : Nat) (Option.some Jvm.ClassFile.FieldType.int)) ∈ lw_all := lw_g (lw_at lw_m5 34 rfl) rfl
theorem q1043 : (Jvm.Cond.instanceMethod ({ cls := "SleeveSlipsModel", name := "bound", desc := "(II)I" } : Jvm.MethodName)) ∈ lw_all := lw_g (lw_at lw_m5 36 rfl) rfl
theorem q1044 : (Jvm.Cond.selects "SleeveSlipsModel" ({ cls := "SleeveSlipsModel", name := "bound", desc := "(II)I" } : Jvm.MethodName) ({ cls := "SleeveSlipsModel", name := "bound", desc := "(II)I" } : Jvm.MethodName)) ∈ lw_all := lw_g (lw_at lw_m5 37 rfl) rfl
theorem q1045 : (Jvm.Cond.code ({ cls := "SleeveSlipsModel", name := "bound", desc := "(II)I" } : Jvm.MethodName) prog_14_method_38_code (3 : Nat) (Option.some Jvm.ClassFile.FieldType.int)) ∈ lw_all := lw_g (lw_at lw_m5 38 rfl) rfl
theorem q1047 : (Jvm.Cond.instanceMethod ({ cls := "SleeveSlipsModel", name := "sort", desc := "(IIII)I" } : Jvm.MethodName)) ∈ lw_all := lw_g (lw_at lw_m5 40 rfl) rfl
theorem q1048 : (Jvm.Cond.selects "SleeveSlipsModel" ({ cls := "SleeveSlipsModel", name := "sort", desc := "(IIII)I" } : Jvm.MethodName) ({ cls := "SleeveSlipsModel", name := "sort", desc := "(IIII)I" } : Jvm.MethodName)) ∈ lw_all := lw_g (lw_at lw_m5 41 rfl) rfl
theorem q1049 : (Jvm.Cond.code ({ cls := "SleeveSlipsModel", name := "sort", desc := "(IIII)I" } : Jvm.MethodName) prog_14_method_40_code (6 : Nat) (Option.some Jvm.ClassFile.FieldType.int)) ∈ lw_all := lw_g (lw_at lw_m5 42 rfl) rfl
theorem q1050 : (Jvm.Cond.constantLong "SleeveSlipsModel" (193 : Nat) (2 : Int64)) ∈ lw_all := lw_g (lw_at lw_m5 43 rfl) rfl
theorem q1051 : (Jvm.Cond.constantLong "SleeveSlipsModel" (195 : Nat) (10 : Int64)) ∈ lw_all := lw_g (lw_at lw_m5 44 rfl) rfl
theorem q1052 : (Jvm.Cond.constantLong "SleeveSlipsModel" (197 : Nat) (99 : Int64)) ∈ lw_all := lw_g (lw_at lw_m5 45 rfl) rfl
theorem q1053 : (Jvm.Cond.methodLink "SleeveSlipsModel" (199 : Nat) ({ cls := "SleeveSlipsModel", name := "allTenths", desc := "()I" } : Jvm.MethodName)) ∈ lw_all := lw_g (lw_at lw_m5 46 rfl) rfl
theorem q1054 : (Jvm.Cond.privateMethod ({ cls := "SleeveSlipsModel", name := "allTenths", desc := "()I" } : Jvm.MethodName)) ∈ lw_tbl := lw_at lw_m5 47 rfl
theorem q1055 : (Jvm.Cond.instanceMethod ({ cls := "SleeveSlipsModel", name := "allTenths", desc := "()I" } : Jvm.MethodName)) ∈ lw_all := lw_g (lw_at lw_m5 48 rfl) rfl
theorem q1056 : (Jvm.Cond.code ({ cls := "SleeveSlipsModel", name := "allTenths", desc := "()I" } : Jvm.MethodName) prog_14_method_39_code (1 : Nat) (Option.some Jvm.ClassFile.FieldType.int)) ∈ lw_all := lw_g (lw_at lw_m5 49 rfl) rfl
theorem q1058 : (Jvm.Cond.instanceMethod ({ cls := "SleeveSlipsModel", name := "expected", desc := "(III)J" } : Jvm.MethodName)) ∈ lw_all := lw_g (lw_at lw_m5 51 rfl) rfl
theorem q1059 : (Jvm.Cond.selects "SleeveSlipsModel" ({ cls := "SleeveSlipsModel", name := "expected", desc := "(III)J" } : Jvm.MethodName) ({ cls := "SleeveSlipsModel", name := "expected", desc := "(III)J" } : Jvm.MethodName)) ∈ lw_all := lw_g (lw_at lw_m5 52 rfl) rfl
theorem q1060 : (Jvm.Cond.code ({ cls := "SleeveSlipsModel", name := "expected", desc := "(III)J" } : Jvm.MethodName) prog_14_method_43_code (12 : Nat) (Option.some Jvm.ClassFile.FieldType.long)) ∈ lw_all := lw_g (lw_at lw_m5 53 rfl) rfl
theorem q1061 : (Jvm.Cond.constantLong "SleeveSlipsModel" (208 : Nat) (6 : Int64)) ∈ lw_all := lw_g (lw_at lw_m5 54 rfl) rfl
theorem q1062 : (Jvm.Cond.constantLong "SleeveSlipsModel" (210 : Nat) (-1 : Int64)) ∈ lw_all := lw_g (lw_at lw_m5 55 rfl) rfl
theorem q1063 : (Jvm.Cond.methodLink "SleeveSlipsModel" (212 : Nat) ({ cls := "SleeveSlipsModel", name := "findBrings", desc := "(II)V" } : Jvm.MethodName)) ∈ lw_all := lw_g (lw_at lw_m5 56 rfl) rfl
theorem q1064 : (Jvm.Cond.privateMethod ({ cls := "SleeveSlipsModel", name := "findBrings", desc := "(II)V" } : Jvm.MethodName)) ∈ lw_tbl := lw_at lw_m5 57 rfl
theorem q1065 : (Jvm.Cond.instanceMethod ({ cls := "SleeveSlipsModel", name := "findBrings", desc := "(II)V" } : Jvm.MethodName)) ∈ lw_all := lw_g (lw_at lw_m5 58 rfl) rfl
theorem q1066 : (Jvm.Cond.code ({ cls := "SleeveSlipsModel", name := "findBrings", desc := "(II)V" } : Jvm.MethodName) prog_14_method_41_code (16 : Nat) (Option.none : Option Jvm.ClassFile.FieldType)) ∈ lw_all := lw_g (lw_at lw_m5 59 rfl) rfl
theorem q1067 : (Jvm.Cond.methodLink "SleeveSlipsModel" (205 : Nat) ({ cls := "SleeveSlipsModel", name := "behind", desc := "(II)I" } : Jvm.MethodName)) ∈ lw_all := lw_g (lw_at lw_m5 60 rfl) rfl
theorem q1068 : (Jvm.Cond.privateMethod ({ cls := "SleeveSlipsModel", name := "behind", desc := "(II)I" } : Jvm.MethodName)) ∈ lw_tbl := lw_at lw_m5 61 rfl
theorem q1069 : (Jvm.Cond.instanceMethod ({ cls := "SleeveSlipsModel", name := "behind", desc := "(II)I" } : Jvm.MethodName)) ∈ lw_all := lw_g (lw_at lw_m5 62 rfl) rfl
theorem q1070 : (Jvm.Cond.code ({ cls := "SleeveSlipsModel", name := "behind", desc := "(II)I" } : Jvm.MethodName) prog_14_method_42_code (3 : Nat) (Option.some Jvm.ClassFile.FieldType.int)) ∈ lw_all := lw_g (lw_at lw_m5 63 rfl) rfl
theorem q1072 : (Jvm.Cond.instanceMethod ({ cls := "SleeveSlipsModel", name := "wise", desc := "(III)I" } : Jvm.MethodName)) ∈ lw_all := lw_g (lw_at lw_m5 65 rfl) rfl
theorem q1073 : (Jvm.Cond.selects "SleeveSlipsModel" ({ cls := "SleeveSlipsModel", name := "wise", desc := "(III)I" } : Jvm.MethodName) ({ cls := "SleeveSlipsModel", name := "wise", desc := "(III)I" } : Jvm.MethodName)) ∈ lw_all := lw_g (lw_at lw_m5 66 rfl) rfl
theorem q1074 : (Jvm.Cond.code ({ cls := "SleeveSlipsModel", name := "wise", desc := "(III)I" } : Jvm.MethodName) prog_14_method_44_code (7 : Nat) (Option.some Jvm.ClassFile.FieldType.int)) ∈ lw_all := lw_g (lw_at lw_m5 67 rfl) rfl
theorem q1075 : (Jvm.Cond.constantLong "SleeveSlipsModel" (215 : Nat) (5 : Int64)) ∈ lw_all := lw_g (lw_at lw_m5 68 rfl) rfl
theorem q1077 : (Jvm.Cond.instanceMethod ({ cls := "SleeveSlipsModel", name := "ring", desc := "()I" } : Jvm.MethodName)) ∈ lw_all := lw_g (lw_at lw_m5 70 rfl) rfl
theorem q1078 : (Jvm.Cond.selects "SleeveSlipsModel" ({ cls := "SleeveSlipsModel", name := "ring", desc := "()I" } : Jvm.MethodName) ({ cls := "SleeveSlipsModel", name := "ring", desc := "()I" } : Jvm.MethodName)) ∈ lw_all := lw_g (lw_at lw_m5 71 rfl) rfl
theorem q1079 : (Jvm.Cond.code ({ cls := "SleeveSlipsModel", name := "ring", desc := "()I" } : Jvm.MethodName) prog_14_method_47_code (1 : Nat) (Option.some Jvm.ClassFile.FieldType.int)) ∈ lw_all := lw_g (lw_at lw_m5 72 rfl) rfl
theorem q1080 : (Jvm.Cond.methodLink "SleeveSlipsModel" (217 : Nat) ({ cls := "SleeveSlipsModel", name := "allAskings", desc := "()I" } : Jvm.MethodName)) ∈ lw_all := lw_g (lw_at lw_m5 73 rfl) rfl
theorem q1081 : (Jvm.Cond.privateMethod ({ cls := "SleeveSlipsModel", name := "allAskings", desc := "()I" } : Jvm.MethodName)) ∈ lw_tbl := lw_at lw_m5 74 rfl
theorem q1082 : (Jvm.Cond.instanceMethod ({ cls := "SleeveSlipsModel", name := "allAskings", desc := "()I" } : Jvm.MethodName)) ∈ lw_all := lw_g (lw_at lw_m5 75 rfl) rfl
theorem q1083 : (Jvm.Cond.code ({ cls := "SleeveSlipsModel", name := "allAskings", desc := "()I" } : Jvm.MethodName) prog_14_method_46_code (1 : Nat) (Option.some Jvm.ClassFile.FieldType.int)) ∈ lw_all := lw_g (lw_at lw_m5 76 rfl) rfl
theorem q1084 : (Jvm.Cond.methodLink "SleeveSlipsModel" (220 : Nat) ({ cls := "SleeveSlipsModel", name := "leftOf", desc := "(I)I" } : Jvm.MethodName)) ∈ lw_all := lw_g (lw_at lw_m5 77 rfl) rfl
theorem q1085 : (Jvm.Cond.privateMethod ({ cls := "SleeveSlipsModel", name := "leftOf", desc := "(I)I" } : Jvm.MethodName)) ∈ lw_tbl := lw_at lw_m5 78 rfl
theorem q1086 : (Jvm.Cond.instanceMethod ({ cls := "SleeveSlipsModel", name := "leftOf", desc := "(I)I" } : Jvm.MethodName)) ∈ lw_all := lw_g (lw_at lw_m5 79 rfl) rfl
theorem q1087 : (Jvm.Cond.code ({ cls := "SleeveSlipsModel", name := "leftOf", desc := "(I)I" } : Jvm.MethodName) prog_14_method_45_code (6 : Nat) (Option.some Jvm.ClassFile.FieldType.int)) ∈ lw_all := lw_g (lw_at lw_m5 80 rfl) rfl
theorem q1089 : (Jvm.Cond.instanceMethod ({ cls := "SleeveSlipsModel", name := "order", desc := "(I)I" } : Jvm.MethodName)) ∈ lw_all := lw_g (lw_at lw_m5 82 rfl) rfl
theorem q1090 : (Jvm.Cond.selects "SleeveSlipsModel" ({ cls := "SleeveSlipsModel", name := "order", desc := "(I)I" } : Jvm.MethodName) ({ cls := "SleeveSlipsModel", name := "order", desc := "(I)I" } : Jvm.MethodName)) ∈ lw_all := lw_g (lw_at lw_m5 83 rfl) rfl
theorem q1091 : (Jvm.Cond.code ({ cls := "SleeveSlipsModel", name := "order", desc := "(I)I" } : Jvm.MethodName) prog_14_method_48_code (7 : Nat) (Option.some Jvm.ClassFile.FieldType.int)) ∈ lw_all := lw_g (lw_at lw_m5 84 rfl) rfl
theorem q1092 : (Jvm.Cond.methodLink "SleeveSlipsModel" (223 : Nat) ({ cls := "SleeveSlipsModel", name := "ring", desc := "()I" } : Jvm.MethodName)) ∈ lw_all := lw_g (lw_at lw_m5 85 rfl) rfl
theorem q1094 : (Jvm.Cond.instanceMethod ({ cls := "SleeveSlipsModel", name := "fewest", desc := "(I)I" } : Jvm.MethodName)) ∈ lw_all := lw_g (lw_at lw_m5 87 rfl) rfl
theorem q1095 : (Jvm.Cond.selects "SleeveSlipsModel" ({ cls := "SleeveSlipsModel", name := "fewest", desc := "(I)I" } : Jvm.MethodName) ({ cls := "SleeveSlipsModel", name := "fewest", desc := "(I)I" } : Jvm.MethodName)) ∈ lw_all := lw_g (lw_at lw_m5 88 rfl) rfl
theorem q1096 : (Jvm.Cond.code ({ cls := "SleeveSlipsModel", name := "fewest", desc := "(I)I" } : Jvm.MethodName) prog_14_method_49_code (4 : Nat) (Option.some Jvm.ClassFile.FieldType.int)) ∈ lw_all := lw_g (lw_at lw_m5 89 rfl) rfl
theorem q1098 : (Jvm.Cond.instanceMethod ({ cls := "SleeveSlipsModel", name := "great", desc := "(III)I" } : Jvm.MethodName)) ∈ lw_all := lw_g (lw_at lw_m5 91 rfl) rfl
theorem q1099 : (Jvm.Cond.selects "SleeveSlipsModel" ({ cls := "SleeveSlipsModel", name := "great", desc := "(III)I" } : Jvm.MethodName) ({ cls := "SleeveSlipsModel", name := "great", desc := "(III)I" } : Jvm.MethodName)) ∈ lw_all := lw_g (lw_at lw_m5 92 rfl) rfl
theorem q1100 : (Jvm.Cond.code ({ cls := "SleeveSlipsModel", name := "great", desc := "(III)I" } : Jvm.MethodName) prog_14_method_51_code (11 : Nat) (Option.some Jvm.ClassFile.FieldType.int)) ∈ lw_all := lw_g (lw_at lw_m5 93 rfl) rfl
theorem q1101 : (Jvm.Cond.constantLong "SleeveSlipsModel" (226 : Nat) (9 : Int64)) ∈ lw_all := lw_g (lw_at lw_m5 94 rfl) rfl
theorem q1102 : (Jvm.Cond.methodLink "SleeveSlipsModel" (228 : Nat) ({ cls := "SleeveSlipsModel", name := "leftTo", desc := "(I)I" } : Jvm.MethodName)) ∈ lw_all := lw_g (lw_at lw_m5 95 rfl) rfl
theorem q1103 : (Jvm.Cond.privateMethod ({ cls := "SleeveSlipsModel", name := "leftTo", desc := "(I)I" } : Jvm.MethodName)) ∈ lw_tbl := lw_at lw_m5 96 rfl
theorem q1104 : (Jvm.Cond.instanceMethod ({ cls := "SleeveSlipsModel", name := "leftTo", desc := "(I)I" } : Jvm.MethodName)) ∈ lw_all := lw_g (lw_at lw_m5 97 rfl) rfl
theorem q1105 : (Jvm.Cond.code ({ cls := "SleeveSlipsModel", name := "leftTo", desc := "(I)I" } : Jvm.MethodName) prog_14_method_50_code (4 : Nat) (Option.some Jvm.ClassFile.FieldType.int)) ∈ lw_all := lw_g (lw_at lw_m5 98 rfl) rfl
theorem q1107 : (Jvm.Cond.instanceMethod ({ cls := "SleeveSlipsModel", name := "rate", desc := "(II)I" } : Jvm.MethodName)) ∈ lw_all := lw_g (lw_at lw_m5 100 rfl) rfl
theorem q1108 : (Jvm.Cond.selects "SleeveSlipsModel" ({ cls := "SleeveSlipsModel", name := "rate", desc := "(II)I" } : Jvm.MethodName) ({ cls := "SleeveSlipsModel", name := "rate", desc := "(II)I" } : Jvm.MethodName)) ∈ lw_all := lw_g (lw_at lw_m5 101 rfl) rfl
theorem q1109 : (Jvm.Cond.code ({ cls := "SleeveSlipsModel", name := "rate", desc := "(II)I" } : Jvm.MethodName) prog_14_method_52_code (4 : Nat) (Option.some Jvm.ClassFile.FieldType.int)) ∈ lw_all := lw_g (lw_at lw_m5 102 rfl) rfl
theorem q1110 : (Jvm.Cond.constant "SleeveSlipsModel" (231 : Nat) (-1000000 : Int32)) ∈ lw_all := lw_g (lw_at lw_m5 103 rfl) rfl
theorem q1111 : (Jvm.Cond.constantLong "SleeveSlipsModel" (236 : Nat) (100 : Int64)) ∈ lw_all := lw_g (lw_at lw_m5 104 rfl) rfl
theorem q1112 : (Jvm.Cond.constantLong "SleeveSlipsModel" (238 : Nat) (1010 : Int64)) ∈ lw_all := lw_g (lw_at lw_m5 105 rfl) rfl
theorem q1113 : (Jvm.Cond.constantLong "SleeveSlipsModel" (240 : Nat) (10100 : Int64)) ∈ lw_all := lw_g (lw_at lw_m5 106 rfl) rfl
theorem q1114 : (Jvm.Cond.constantLong "SleeveSlipsModel" (242 : Nat) (100000 : Int64)) ∈ lw_all := lw_g (lw_at lw_m5 107 rfl) rfl
theorem q1116 : (Jvm.Cond.instanceMethod ({ cls := "SleeveSlipsModel", name := "keep", desc := "(I)I" } : Jvm.MethodName)) ∈ lw_all := lw_g (lw_at lw_m5 109 rfl) rfl
theorem q1117 : (Jvm.Cond.selects "SleeveSlipsModel" ({ cls := "SleeveSlipsModel", name := "keep", desc := "(I)I" } : Jvm.MethodName) ({ cls := "SleeveSlipsModel", name := "keep", desc := "(I)I" } : Jvm.MethodName)) ∈ lw_all := lw_g (lw_at lw_m5 110 rfl) rfl
theorem q1118 : (Jvm.Cond.code ({ cls := "SleeveSlipsModel", name := "keep", desc := "(I)I" } : Jvm.MethodName) prog_14_method_54_code (2 : Nat) (Option.some Jvm.ClassFile.FieldType.int)) ∈ lw_all := lw_g (lw_at lw_m5 111 rfl) rfl
theorem q1119 : (Jvm.Cond.methodLink "SleeveSlipsModel" (244 : Nat) ({ cls := "SleeveSlipsModel", name := "copy", desc := "(II)V" } : Jvm.MethodName)) ∈ lw_all := lw_g (lw_at lw_m5 112 rfl) rfl
theorem q1120 : (Jvm.Cond.privateMethod ({ cls := "SleeveSlipsModel", name := "copy", desc := "(II)V" } : Jvm.MethodName)) ∈ lw_tbl := lw_at lw_m5 113 rfl
theorem q1121 : (Jvm.Cond.instanceMethod ({ cls := "SleeveSlipsModel", name := "copy", desc := "(II)V" } : Jvm.MethodName)) ∈ lw_all := lw_g (lw_at lw_m5 114 rfl) rfl
theorem q1122 : (Jvm.Cond.code ({ cls := "SleeveSlipsModel", name := "copy", desc := "(II)V" } : Jvm.MethodName) prog_14_method_53_code (4 : Nat) (Option.none : Option Jvm.ClassFile.FieldType)) ∈ lw_all := lw_g (lw_at lw_m5 115 rfl) rfl
theorem q1124 : (Jvm.Cond.instanceMethod ({ cls := "SleeveSlipsModel", name := "back", desc := "(I)I" } : Jvm.MethodName)) ∈ lw_all := lw_g (lw_at lw_m5 117 rfl) rfl
theorem q1125 : (Jvm.Cond.selects "SleeveSlipsModel" ({ cls := "SleeveSlipsModel", name := "back", desc := "(I)I" } : Jvm.MethodName) ({ cls := "SleeveSlipsModel", name := "back", desc := "(I)I" } : Jvm.MethodName)) ∈ lw_all := lw_g (lw_at lw_m5 118 rfl) rfl
theorem q1126 : (Jvm.Cond.code ({ cls := "SleeveSlipsModel", name := "back", desc := "(I)I" } : Jvm.MethodName) prog_14_method_55_code (2 : Nat) (Option.some Jvm.ClassFile.FieldType.int)) ∈ lw_all := lw_g (lw_at lw_m5 119 rfl) rfl
theorem q1128 : (Jvm.Cond.instanceMethod ({ cls := "SleeveSlipsModel", name := "count", desc := "(I)I" } : Jvm.MethodName)) ∈ lw_all := lw_g (lw_at lw_m5 121 rfl) rfl
theorem q1129 : (Jvm.Cond.selects "SleeveSlipsModel" ({ cls := "SleeveSlipsModel", name := "count", desc := "(I)I" } : Jvm.MethodName) ({ cls := "SleeveSlipsModel", name := "count", desc := "(I)I" } : Jvm.MethodName)) ∈ lw_all := lw_g (lw_at lw_m5 122 rfl) rfl
theorem q1130 : (Jvm.Cond.code ({ cls := "SleeveSlipsModel", name := "count", desc := "(I)I" } : Jvm.MethodName) prog_14_method_56_code (2 : Nat) (Option.some Jvm.ClassFile.FieldType.int)) ∈ lw_all := lw_g (lw_at lw_m5 123 rfl) rfl
theorem q1132 : (Jvm.Cond.instanceMethod ({ cls := "SleeveSlipsModel", name := "trace", desc := "()J" } : Jvm.MethodName)) ∈ lw_all := lw_g (lw_at lw_m5 125 rfl) rfl
theorem q1133 : (Jvm.Cond.selects "SleeveSlipsModel" ({ cls := "SleeveSlipsModel", name := "trace", desc := "()J" } : Jvm.MethodName) ({ cls := "SleeveSlipsModel", name := "trace", desc := "()J" } : Jvm.MethodName)) ∈ lw_all := lw_g (lw_at lw_m5 126 rfl) rfl
theorem q1134 : (Jvm.Cond.code ({ cls := "SleeveSlipsModel", name := "trace", desc := "()J" } : Jvm.MethodName) prog_14_method_57_code (1 : Nat) (Option.some Jvm.ClassFile.FieldType.long)) ∈ lw_all := lw_g (lw_at lw_m5 127 rfl) rfl
theorem in_X10 : ∀ w ∈ wsX100, w ∈ lw_all := lw_in wsX100 [834, 836, 838, 840, 842, 844, 846, 848, 850, 852, 854, 856, 858, 860, 862, 864, 866, 868, 870, 872, 874, 876, 878, 880, 882, 884, 886, 888] (by decide +kernel) (by decide +kernel)
